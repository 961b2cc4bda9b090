set_option maxRecDepth 100000
abbrev cL_law : ByteArray := code
def dkwL_law_139 : List UInt8 := [21, 4, 4, 96, 46, 182, 1, 53, 159, 0, 5, 3, 172, 132, 4, 6, 167, 242, 159, 4, 172]
abbrev dktL_law_139 : List UInt8 := dkwL_law_139 ++ []
def dkwL_law_138 : List UInt8 := [21, 6, 133, 148, 153, 0, 5, 3, 172, 167, 0, 28, 43, 42, 21, 4, 4, 96, 46, 182, 1, 50, 44, 42]
abbrev dktL_law_138 : List UInt8 := dkwL_law_138 ++ dktL_law_139
def dkwL_law_137 : List UInt8 := [182, 1, 49, 54, 6, 44, 182, 0, 161, 21, 5, 159, 0, 5, 3, 172, 21, 5, 154, 0, 15, 45, 3, 47]
abbrev dktL_law_137 : List UInt8 := dkwL_law_137 ++ dktL_law_138
def dkwL_law_136 : List UInt8 := [184, 1, 47, 54, 5, 44, 42, 21, 4, 4, 96, 46, 42, 21, 4, 5, 96, 46, 42, 21, 4, 6, 96, 46]
abbrev dktL_law_136 : List UInt8 := dkwL_law_136 ++ dktL_law_137
def dkwL_law_135 : List UInt8 := [167, 0, 108, 43, 42, 21, 4, 4, 96, 46, 42, 21, 4, 5, 96, 46, 42, 21, 4, 6, 96, 46, 45]
abbrev dktL_law_135 : List UInt8 := dkwL_law_135 ++ dktL_law_136
def dkwL_law_134 : List UInt8 := [159, 0, 5, 3, 172, 21, 5, 154, 0, 15, 45, 3, 47, 21, 6, 133, 148, 153, 0, 5, 3, 172]
abbrev dktL_law_134 : List UInt8 := dkwL_law_134 ++ dktL_law_135
def dkwL_law_133 : List UInt8 := [21, 4, 4, 96, 46, 42, 21, 4, 5, 96, 46, 182, 1, 46, 54, 6, 44, 182, 0, 161, 21, 5]
abbrev dktL_law_133 : List UInt8 := dkwL_law_133 ++ dktL_law_134
def dkwL_law_132 : List UInt8 := [167, 0, 176, 43, 42, 21, 4, 4, 96, 46, 42, 21, 4, 5, 96, 46, 45, 184, 1, 44, 54, 5, 44, 42]
abbrev dktL_law_132 : List UInt8 := dkwL_law_132 ++ dktL_law_133
def dkwL_law_131 : List UInt8 := [159, 0, 5, 3, 172, 21, 5, 154, 0, 15, 45, 3, 47, 21, 6, 133, 148, 153, 0, 5, 3, 172]
abbrev dktL_law_131 : List UInt8 := dkwL_law_131 ++ dktL_law_132
def dkwL_law_130 : List UInt8 := [21, 4, 4, 96, 46, 42, 21, 4, 5, 96, 46, 182, 1, 43, 54, 6, 44, 182, 0, 161, 21, 5]
abbrev dktL_law_130 : List UInt8 := dkwL_law_130 ++ dktL_law_131
def dkwL_law_129 : List UInt8 := [167, 0, 244, 43, 42, 21, 4, 4, 96, 46, 42, 21, 4, 5, 96, 46, 45, 184, 1, 41, 54, 5, 44, 42]
abbrev dktL_law_129 : List UInt8 := dkwL_law_129 ++ dktL_law_130
def dkwL_law_128 : List UInt8 := [154, 0, 22, 45, 3, 47, 21, 6, 153, 0, 7, 10, 167, 0, 4, 9, 148, 153, 0, 5, 3, 172]
abbrev dktL_law_128 : List UInt8 := dkwL_law_128 ++ dktL_law_129
def dkwL_law_127 : List UInt8 := [167, 0, 4, 3, 182, 1, 40, 54, 6, 44, 182, 0, 161, 21, 5, 159, 0, 5, 3, 172, 21, 5]
abbrev dktL_law_127 : List UInt8 := dkwL_law_127 ++ dktL_law_128
def dkwL_law_126 : List UInt8 := [45, 184, 1, 38, 54, 5, 44, 42, 21, 4, 4, 96, 46, 42, 21, 4, 5, 96, 46, 153, 0, 7, 4]
abbrev dktL_law_126 : List UInt8 := dkwL_law_126 ++ dktL_law_127
def dkwL_law_125 : List UInt8 := [167, 1, 79, 43, 42, 21, 4, 4, 96, 46, 42, 21, 4, 5, 96, 46, 153, 0, 7, 4, 167, 0, 4, 3]
abbrev dktL_law_125 : List UInt8 := dkwL_law_125 ++ dktL_law_126
def dkwL_law_124 : List UInt8 := [159, 0, 5, 3, 172, 21, 5, 154, 0, 15, 45, 3, 47, 21, 6, 133, 148, 153, 0, 5, 3, 172]
abbrev dktL_law_124 : List UInt8 := dkwL_law_124 ++ dktL_law_125
def dkwL_law_123 : List UInt8 := [21, 4, 5, 96, 46, 42, 21, 4, 6, 96, 46, 182, 1, 37, 54, 6, 44, 182, 0, 161, 21, 5]
abbrev dktL_law_123 : List UInt8 := dkwL_law_123 ++ dktL_law_124
def dkwL_law_122 : List UInt8 := [5, 96, 46, 42, 21, 4, 6, 96, 46, 45, 184, 1, 35, 54, 5, 44, 42, 21, 4, 4, 96, 46, 42]
abbrev dktL_law_122 : List UInt8 := dkwL_law_122 ++ dktL_law_123
def dkwL_law_121 : List UInt8 := [3, 47, 21, 6, 133, 148, 153, 0, 5, 3, 172, 167, 1, 159, 43, 42, 21, 4, 4, 96, 46, 42, 21, 4]
abbrev dktL_law_121 : List UInt8 := dkwL_law_121 ++ dktL_law_122
def dkwL_law_120 : List UInt8 := [96, 46, 182, 1, 34, 54, 6, 44, 182, 0, 161, 21, 5, 159, 0, 5, 3, 172, 21, 5, 154, 0, 15, 45]
abbrev dktL_law_120 : List UInt8 := dkwL_law_120 ++ dktL_law_121
def dkwL_law_119 : List UInt8 := [46, 42, 21, 4, 5, 96, 46, 45, 184, 1, 32, 54, 5, 44, 42, 21, 4, 4, 96, 46, 42, 21, 4, 5]
abbrev dktL_law_119 : List UInt8 := dkwL_law_119 ++ dktL_law_120
def dkwL_law_118 : List UInt8 := [154, 0, 15, 45, 3, 47, 21, 6, 133, 148, 153, 0, 5, 3, 172, 167, 1, 227, 43, 42, 21, 4, 4, 96]
abbrev dktL_law_118 : List UInt8 := dkwL_law_118 ++ dktL_law_119
def dkwL_law_117 : List UInt8 := [42, 21, 4, 5, 96, 46, 182, 1, 31, 54, 6, 44, 182, 0, 161, 21, 5, 159, 0, 5, 3, 172, 21, 5]
abbrev dktL_law_117 : List UInt8 := dkwL_law_117 ++ dktL_law_118
def dkwL_law_116 : List UInt8 := [21, 4, 4, 96, 46, 42, 21, 4, 5, 96, 46, 45, 184, 1, 29, 54, 5, 44, 42, 21, 4, 4, 96, 46]
abbrev dktL_law_116 : List UInt8 := dkwL_law_116 ++ dktL_law_117
def dkwL_law_115 : List UInt8 := [172, 21, 5, 154, 0, 15, 45, 3, 47, 21, 6, 133, 148, 153, 0, 5, 3, 172, 167, 2, 39, 43, 42]
abbrev dktL_law_115 : List UInt8 := dkwL_law_115 ++ dktL_law_116
def dkwL_law_114 : List UInt8 := [54, 5, 44, 42, 21, 4, 4, 96, 46, 182, 1, 28, 54, 6, 44, 182, 0, 161, 21, 5, 159, 0, 5, 3]
abbrev dktL_law_114 : List UInt8 := dkwL_law_114 ++ dktL_law_115
def dkwL_law_113 : List UInt8 := [21, 6, 133, 148, 153, 0, 5, 3, 172, 167, 2, 95, 43, 42, 21, 4, 4, 96, 46, 45, 184, 1, 26]
abbrev dktL_law_113 : List UInt8 := dkwL_law_113 ++ dktL_law_114
def dkwL_law_112 : List UInt8 := [182, 1, 25, 54, 6, 44, 182, 0, 161, 21, 5, 159, 0, 5, 3, 172, 21, 5, 154, 0, 15, 45, 3, 47]
abbrev dktL_law_112 : List UInt8 := dkwL_law_112 ++ dktL_law_113
def dkwL_law_111 : List UInt8 := [5, 96, 46, 45, 184, 1, 23, 54, 5, 44, 42, 21, 4, 4, 96, 46, 42, 21, 4, 5, 96, 46]
abbrev dktL_law_111 : List UInt8 := dkwL_law_111 ++ dktL_law_112
def dkwL_law_110 : List UInt8 := [3, 47, 21, 6, 133, 148, 153, 0, 5, 3, 172, 167, 2, 163, 43, 42, 21, 4, 4, 96, 46, 42, 21, 4]
abbrev dktL_law_110 : List UInt8 := dkwL_law_110 ++ dktL_law_111
def dkwL_law_109 : List UInt8 := [96, 46, 182, 1, 22, 54, 6, 44, 182, 0, 161, 21, 5, 159, 0, 5, 3, 172, 21, 5, 154, 0, 15, 45]
abbrev dktL_law_109 : List UInt8 := dkwL_law_109 ++ dktL_law_110
def dkwL_law_108 : List UInt8 := [46, 42, 21, 4, 5, 96, 46, 45, 184, 1, 20, 54, 5, 44, 42, 21, 4, 4, 96, 46, 42, 21, 4, 5]
abbrev dktL_law_108 : List UInt8 := dkwL_law_108 ++ dktL_law_109
def dkwL_law_107 : List UInt8 := [154, 0, 15, 45, 3, 47, 21, 6, 133, 148, 153, 0, 5, 3, 172, 167, 2, 231, 43, 42, 21, 4, 4, 96]
abbrev dktL_law_107 : List UInt8 := dkwL_law_107 ++ dktL_law_108
def dkwL_law_106 : List UInt8 := [42, 21, 4, 6, 96, 46, 182, 1, 19, 54, 6, 44, 182, 0, 161, 21, 5, 159, 0, 5, 3, 172, 21, 5]
abbrev dktL_law_106 : List UInt8 := dkwL_law_106 ++ dktL_law_107
def dkwL_law_105 : List UInt8 := [21, 4, 6, 96, 46, 45, 184, 1, 17, 54, 5, 44, 42, 21, 4, 4, 96, 46, 42, 21, 4, 5, 96, 46]
abbrev dktL_law_105 : List UInt8 := dkwL_law_105 ++ dktL_law_106
def dkwL_law_104 : List UInt8 := [148, 153, 0, 5, 3, 172, 167, 3, 55, 43, 42, 21, 4, 4, 96, 46, 42, 21, 4, 5, 96, 46, 42]
abbrev dktL_law_104 : List UInt8 := dkwL_law_104 ++ dktL_law_105
def dkwL_law_103 : List UInt8 := [54, 6, 44, 182, 0, 161, 21, 5, 159, 0, 5, 3, 172, 21, 5, 154, 0, 15, 45, 3, 47, 21, 6, 133]
abbrev dktL_law_103 : List UInt8 := dkwL_law_103 ++ dktL_law_104
def dkwL_law_102 : List UInt8 := [96, 46, 45, 184, 1, 14, 54, 5, 44, 42, 21, 4, 4, 96, 46, 42, 21, 4, 5, 96, 46, 182, 1, 16]
abbrev dktL_law_102 : List UInt8 := dkwL_law_102 ++ dktL_law_103
def dkwL_law_101 : List UInt8 := [167, 0, 4, 9, 148, 153, 0, 5, 3, 172, 167, 3, 123, 43, 42, 21, 4, 4, 96, 46, 42, 21, 4, 5]
abbrev dktL_law_101 : List UInt8 := dkwL_law_101 ++ dktL_law_102
def dkwL_law_100 : List UInt8 := [182, 0, 161, 21, 5, 159, 0, 5, 3, 172, 21, 5, 154, 0, 22, 45, 3, 47, 21, 6, 153, 0, 7, 10]
abbrev dktL_law_100 : List UInt8 := dkwL_law_100 ++ dktL_law_101
def dkwL_law_99 : List UInt8 := [21, 4, 4, 96, 46, 42, 21, 4, 5, 96, 46, 42, 21, 4, 6, 96, 46, 182, 1, 13, 54, 6, 44]
abbrev dktL_law_99 : List UInt8 := dkwL_law_99 ++ dktL_law_100
def dkwL_law_98 : List UInt8 := [4, 96, 46, 42, 21, 4, 5, 96, 46, 42, 21, 4, 6, 96, 46, 45, 184, 1, 11, 54, 5, 44, 42]
abbrev dktL_law_98 : List UInt8 := dkwL_law_98 ++ dktL_law_99
def dkwL_law_97 : List UInt8 := [21, 5, 154, 0, 15, 45, 3, 47, 21, 6, 133, 148, 153, 0, 5, 3, 172, 167, 3, 210, 43, 42, 21, 4]
abbrev dktL_law_97 : List UInt8 := dkwL_law_97 ++ dktL_law_98
def dkwL_law_96 : List UInt8 := [96, 46, 42, 21, 4, 6, 96, 46, 182, 1, 10, 54, 6, 44, 182, 0, 161, 21, 5, 159, 0, 5, 3, 172]
abbrev dktL_law_96 : List UInt8 := dkwL_law_96 ++ dktL_law_97
def dkwL_law_95 : List UInt8 := [46, 42, 21, 4, 6, 96, 46, 45, 184, 1, 8, 54, 5, 44, 42, 21, 4, 4, 96, 46, 42, 21, 4, 5]
abbrev dktL_law_95 : List UInt8 := dkwL_law_95 ++ dktL_law_96
def dkwL_law_94 : List UInt8 := [21, 6, 133, 148, 153, 0, 5, 3, 172, 167, 4, 34, 43, 42, 21, 4, 4, 96, 46, 42, 21, 4, 5, 96]
abbrev dktL_law_94 : List UInt8 := dkwL_law_94 ++ dktL_law_95
def dkwL_law_93 : List UInt8 := [182, 1, 7, 54, 6, 44, 182, 0, 161, 21, 5, 159, 0, 5, 3, 172, 21, 5, 154, 0, 15, 45, 3, 47]
abbrev dktL_law_93 : List UInt8 := dkwL_law_93 ++ dktL_law_94
def dkwL_law_92 : List UInt8 := [21, 4, 5, 96, 46, 45, 184, 1, 5, 54, 5, 44, 42, 21, 4, 4, 96, 46, 42, 21, 4, 5, 96, 46]
abbrev dktL_law_92 : List UInt8 := dkwL_law_92 ++ dktL_law_93
def dkwL_law_91 : List UInt8 := [45, 3, 47, 21, 6, 133, 148, 153, 0, 5, 3, 172, 167, 4, 102, 43, 42, 21, 4, 4, 96, 46, 42]
abbrev dktL_law_91 : List UInt8 := dkwL_law_91 ++ dktL_law_92
def dkwL_law_90 : List UInt8 := [7, 96, 46, 182, 1, 4, 54, 6, 44, 182, 0, 161, 21, 5, 159, 0, 5, 3, 172, 21, 5, 154, 0, 15]
abbrev dktL_law_90 : List UInt8 := dkwL_law_90 ++ dktL_law_91
def dkwL_law_89 : List UInt8 := [54, 5, 44, 42, 21, 4, 4, 96, 46, 42, 21, 4, 5, 96, 46, 42, 21, 4, 6, 96, 46, 42, 21, 4]
abbrev dktL_law_89 : List UInt8 := dkwL_law_89 ++ dktL_law_90
def dkwL_law_88 : List UInt8 := [46, 42, 21, 4, 5, 96, 46, 42, 21, 4, 6, 96, 46, 42, 21, 4, 7, 96, 46, 45, 184, 1, 2]
abbrev dktL_law_88 : List UInt8 := dkwL_law_88 ++ dktL_law_89
def dkwL_law_87 : List UInt8 := [154, 0, 15, 45, 3, 47, 21, 6, 133, 148, 153, 0, 5, 3, 172, 167, 4, 194, 43, 42, 21, 4, 4, 96]
abbrev dktL_law_87 : List UInt8 := dkwL_law_87 ++ dktL_law_88
def dkwL_law_86 : List UInt8 := [21, 4, 4, 96, 46, 182, 1, 1, 54, 6, 44, 182, 0, 161, 21, 5, 159, 0, 5, 3, 172, 21, 5]
abbrev dktL_law_86 : List UInt8 := dkwL_law_86 ++ dktL_law_87
def dkwL_law_85 : List UInt8 := [153, 0, 5, 3, 172, 167, 4, 250, 43, 42, 21, 4, 4, 96, 46, 45, 184, 0, 255, 54, 5, 44, 42]
abbrev dktL_law_85 : List UInt8 := dkwL_law_85 ++ dktL_law_86
def dkwL_law_84 : List UInt8 := [182, 0, 161, 21, 5, 159, 0, 5, 3, 172, 21, 5, 154, 0, 15, 45, 3, 47, 21, 6, 133, 148]
abbrev dktL_law_84 : List UInt8 := dkwL_law_84 ++ dktL_law_85
def dkwL_law_83 : List UInt8 := [21, 4, 5, 96, 46, 42, 21, 4, 6, 96, 46, 42, 21, 4, 7, 96, 46, 182, 0, 254, 54, 6, 44]
abbrev dktL_law_83 : List UInt8 := dkwL_law_83 ++ dktL_law_84
def dkwL_law_82 : List UInt8 := [6, 96, 46, 42, 21, 4, 7, 96, 46, 45, 184, 0, 252, 54, 5, 44, 42, 21, 4, 4, 96, 46, 42]
abbrev dktL_law_82 : List UInt8 := dkwL_law_82 ++ dktL_law_83
def dkwL_law_81 : List UInt8 := [153, 0, 5, 3, 172, 167, 5, 86, 43, 42, 21, 4, 4, 96, 46, 42, 21, 4, 5, 96, 46, 42, 21, 4]
abbrev dktL_law_81 : List UInt8 := dkwL_law_81 ++ dktL_law_82
def dkwL_law_80 : List UInt8 := [182, 0, 161, 21, 5, 159, 0, 5, 3, 172, 21, 5, 154, 0, 15, 45, 3, 47, 21, 6, 133, 148]
abbrev dktL_law_80 : List UInt8 := dkwL_law_80 ++ dktL_law_81
def dkwL_law_79 : List UInt8 := [184, 0, 249, 54, 5, 44, 42, 21, 4, 4, 96, 46, 42, 21, 4, 5, 96, 46, 182, 0, 251, 54, 6, 44]
abbrev dktL_law_79 : List UInt8 := dkwL_law_79 ++ dktL_law_80
def dkwL_law_78 : List UInt8 := [153, 0, 5, 3, 172, 167, 5, 154, 43, 42, 21, 4, 4, 96, 46, 42, 21, 4, 5, 96, 46, 45]
abbrev dktL_law_78 : List UInt8 := dkwL_law_78 ++ dktL_law_79
def dkwL_law_77 : List UInt8 := [182, 0, 161, 21, 5, 159, 0, 5, 3, 172, 21, 5, 154, 0, 15, 45, 3, 47, 21, 6, 133, 148]
abbrev dktL_law_77 : List UInt8 := dkwL_law_77 ++ dktL_law_78
def dkwL_law_76 : List UInt8 := [184, 0, 246, 54, 5, 44, 42, 21, 4, 4, 96, 46, 42, 21, 4, 5, 96, 46, 182, 0, 248, 54, 6, 44]
abbrev dktL_law_76 : List UInt8 := dkwL_law_76 ++ dktL_law_77
def dkwL_law_75 : List UInt8 := [148, 153, 0, 5, 3, 172, 167, 5, 222, 43, 42, 21, 4, 4, 96, 46, 42, 21, 4, 5, 96, 46, 45]
abbrev dktL_law_75 : List UInt8 := dkwL_law_75 ++ dktL_law_76
def dkwL_law_74 : List UInt8 := [54, 6, 44, 182, 0, 161, 21, 5, 159, 0, 5, 3, 172, 21, 5, 154, 0, 15, 45, 3, 47, 21, 6, 133]
abbrev dktL_law_74 : List UInt8 := dkwL_law_74 ++ dktL_law_75
def dkwL_law_73 : List UInt8 := [4, 96, 46, 42, 21, 4, 5, 96, 46, 42, 21, 4, 6, 96, 46, 42, 21, 4, 7, 96, 46, 182, 0, 245]
abbrev dktL_law_73 : List UInt8 := dkwL_law_73 ++ dktL_law_74
def dkwL_law_72 : List UInt8 := [96, 46, 42, 21, 4, 6, 96, 46, 42, 21, 4, 7, 96, 46, 45, 184, 0, 243, 54, 5, 44, 42, 21, 4]
abbrev dktL_law_72 : List UInt8 := dkwL_law_72 ++ dktL_law_73
def dkwL_law_71 : List UInt8 := [167, 0, 4, 9, 148, 153, 0, 5, 3, 172, 167, 6, 58, 43, 42, 21, 4, 4, 96, 46, 42, 21, 4, 5]
abbrev dktL_law_71 : List UInt8 := dkwL_law_71 ++ dktL_law_72
def dkwL_law_70 : List UInt8 := [182, 0, 161, 21, 5, 159, 0, 5, 3, 172, 21, 5, 154, 0, 22, 45, 3, 47, 21, 6, 153, 0, 7, 10]
abbrev dktL_law_70 : List UInt8 := dkwL_law_70 ++ dktL_law_71
def dkwL_law_69 : List UInt8 := [5, 96, 46, 42, 21, 4, 6, 96, 46, 153, 0, 7, 4, 167, 0, 4, 3, 182, 0, 242, 54, 6, 44]
abbrev dktL_law_69 : List UInt8 := dkwL_law_69 ++ dktL_law_70
def dkwL_law_68 : List UInt8 := [153, 0, 7, 4, 167, 0, 4, 3, 45, 184, 0, 239, 54, 5, 44, 42, 21, 4, 4, 96, 46, 42, 21, 4]
abbrev dktL_law_68 : List UInt8 := dkwL_law_68 ++ dktL_law_69
def dkwL_law_67 : List UInt8 := [167, 6, 161, 43, 42, 21, 4, 4, 96, 46, 42, 21, 4, 5, 96, 46, 42, 21, 4, 6, 96, 46]
abbrev dktL_law_67 : List UInt8 := dkwL_law_67 ++ dktL_law_68
def dkwL_law_66 : List UInt8 := [21, 5, 159, 0, 5, 3, 172, 21, 5, 154, 0, 15, 45, 3, 47, 21, 6, 133, 148, 153, 0, 5, 3, 172]
abbrev dktL_law_66 : List UInt8 := dkwL_law_66 ++ dktL_law_67
def dkwL_law_65 : List UInt8 := [42, 21, 4, 5, 96, 46, 153, 0, 7, 4, 167, 0, 4, 3, 182, 0, 238, 54, 6, 44, 182, 0, 161]
abbrev dktL_law_65 : List UInt8 := dkwL_law_65 ++ dktL_law_66
def dkwL_law_64 : List UInt8 := [5, 96, 46, 153, 0, 7, 4, 167, 0, 4, 3, 45, 184, 0, 235, 54, 5, 44, 42, 21, 4, 4, 96, 46]
abbrev dktL_law_64 : List UInt8 := dkwL_law_64 ++ dktL_law_65
def dkwL_law_63 : List UInt8 := [3, 47, 21, 6, 133, 148, 153, 0, 5, 3, 172, 167, 6, 245, 43, 42, 21, 4, 4, 96, 46, 42, 21, 4]
abbrev dktL_law_63 : List UInt8 := dkwL_law_63 ++ dktL_law_64
def dkwL_law_62 : List UInt8 := [96, 46, 182, 0, 234, 54, 6, 44, 182, 0, 161, 21, 5, 159, 0, 5, 3, 172, 21, 5, 154, 0, 15, 45]
abbrev dktL_law_62 : List UInt8 := dkwL_law_62 ++ dktL_law_63
def dkwL_law_61 : List UInt8 := [46, 42, 21, 4, 5, 96, 46, 45, 184, 0, 232, 54, 5, 44, 42, 21, 4, 4, 96, 46, 42, 21, 4, 5]
abbrev dktL_law_61 : List UInt8 := dkwL_law_61 ++ dktL_law_62
def dkwL_law_60 : List UInt8 := [154, 0, 15, 45, 3, 47, 21, 6, 133, 148, 153, 0, 5, 3, 172, 167, 7, 57, 43, 42, 21, 4, 4, 96]
abbrev dktL_law_60 : List UInt8 := dkwL_law_60 ++ dktL_law_61
def dkwL_law_59 : List UInt8 := [42, 21, 4, 4, 96, 46, 182, 0, 231, 54, 6, 44, 182, 0, 161, 21, 5, 159, 0, 5, 3, 172, 21, 5]
abbrev dktL_law_59 : List UInt8 := dkwL_law_59 ++ dktL_law_60
def dkwL_law_58 : List UInt8 := [96, 46, 182, 0, 228, 159, 7, 115, 3, 172, 43, 42, 21, 4, 4, 96, 46, 45, 184, 0, 229, 54, 5, 44]
abbrev dktL_law_58 : List UInt8 := dkwL_law_58 ++ dktL_law_59
def dkwL_law_57 : List UInt8 := [148, 153, 0, 5, 3, 172, 167, 7, 138, 43, 42, 21, 4, 4, 96, 46, 182, 0, 225, 44, 42, 21, 4, 4]
abbrev dktL_law_57 : List UInt8 := dkwL_law_57 ++ dktL_law_58
def dkwL_law_56 : List UInt8 := [54, 6, 44, 182, 0, 161, 21, 5, 159, 0, 5, 3, 172, 21, 5, 154, 0, 15, 45, 3, 47, 21, 6, 133]
abbrev dktL_law_56 : List UInt8 := dkwL_law_56 ++ dktL_law_57
def dkwL_law_55 : List UInt8 := [96, 46, 45, 184, 0, 222, 54, 5, 44, 42, 21, 4, 4, 96, 46, 42, 21, 4, 5, 96, 46, 182, 0, 224]
abbrev dktL_law_55 : List UInt8 := dkwL_law_55 ++ dktL_law_56
def dkwL_law_54 : List UInt8 := [47, 21, 6, 133, 148, 153, 0, 5, 3, 172, 167, 7, 206, 43, 42, 21, 4, 4, 96, 46, 42, 21, 4, 5]
abbrev dktL_law_54 : List UInt8 := dkwL_law_54 ++ dktL_law_55
def dkwL_law_53 : List UInt8 := [46, 182, 0, 221, 54, 6, 44, 182, 0, 161, 21, 5, 159, 0, 5, 3, 172, 21, 5, 154, 0, 15, 45, 3]
abbrev dktL_law_53 : List UInt8 := dkwL_law_53 ++ dktL_law_54
def dkwL_law_52 : List UInt8 := [159, 8, 8, 3, 172, 43, 42, 21, 4, 4, 96, 46, 45, 184, 0, 219, 54, 5, 44, 42, 21, 4, 4, 96]
abbrev dktL_law_52 : List UInt8 := dkwL_law_52 ++ dktL_law_53
def dkwL_law_51 : List UInt8 := [3, 47, 21, 6, 133, 148, 153, 0, 5, 3, 172, 167, 8, 19, 43, 182, 0, 215, 44, 182, 0, 218]
abbrev dktL_law_51 : List UInt8 := dkwL_law_51 ++ dktL_law_52
def dkwL_law_50 : List UInt8 := [96, 46, 182, 0, 214, 54, 6, 44, 182, 0, 161, 21, 5, 159, 0, 5, 3, 172, 21, 5, 154, 0, 15, 45]
abbrev dktL_law_50 : List UInt8 := dkwL_law_50 ++ dktL_law_51
def dkwL_law_49 : List UInt8 := [46, 42, 21, 4, 5, 96, 46, 45, 184, 0, 212, 54, 5, 44, 42, 21, 4, 4, 96, 46, 42, 21, 4, 5]
abbrev dktL_law_49 : List UInt8 := dkwL_law_49 ++ dktL_law_50
def dkwL_law_48 : List UInt8 := [154, 0, 15, 45, 3, 47, 21, 6, 133, 148, 153, 0, 5, 3, 172, 167, 8, 87, 43, 42, 21, 4, 4, 96]
abbrev dktL_law_48 : List UInt8 := dkwL_law_48 ++ dktL_law_49
def dkwL_law_47 : List UInt8 := [42, 21, 4, 6, 96, 46, 182, 0, 211, 54, 6, 44, 182, 0, 161, 21, 5, 159, 0, 5, 3, 172, 21, 5]
abbrev dktL_law_47 : List UInt8 := dkwL_law_47 ++ dktL_law_48
def dkwL_law_46 : List UInt8 := [21, 4, 6, 96, 46, 45, 184, 0, 209, 54, 5, 44, 42, 21, 4, 4, 96, 46, 42, 21, 4, 5, 96, 46]
abbrev dktL_law_46 : List UInt8 := dkwL_law_46 ++ dktL_law_47
def dkwL_law_45 : List UInt8 := [148, 153, 0, 5, 3, 172, 167, 8, 167, 43, 42, 21, 4, 4, 96, 46, 42, 21, 4, 5, 96, 46, 42]
abbrev dktL_law_45 : List UInt8 := dkwL_law_45 ++ dktL_law_46
def dkwL_law_44 : List UInt8 := [54, 6, 44, 182, 0, 161, 21, 5, 159, 0, 5, 3, 172, 21, 5, 154, 0, 15, 45, 3, 47, 21, 6, 133]
abbrev dktL_law_44 : List UInt8 := dkwL_law_44 ++ dktL_law_45
def dkwL_law_43 : List UInt8 := [46, 45, 184, 0, 206, 54, 5, 44, 42, 21, 4, 4, 96, 46, 42, 21, 4, 5, 96, 46, 182, 0, 208]
abbrev dktL_law_43 : List UInt8 := dkwL_law_43 ++ dktL_law_44
def dkwL_law_42 : List UInt8 := [21, 6, 133, 148, 153, 0, 5, 3, 172, 167, 8, 235, 43, 42, 21, 4, 4, 96, 46, 42, 21, 4, 5, 96]
abbrev dktL_law_42 : List UInt8 := dkwL_law_42 ++ dktL_law_43
def dkwL_law_41 : List UInt8 := [182, 0, 205, 54, 6, 44, 182, 0, 161, 21, 5, 159, 0, 5, 3, 172, 21, 5, 154, 0, 15, 45, 3, 47]
abbrev dktL_law_41 : List UInt8 := dkwL_law_41 ++ dktL_law_42
def dkwL_law_40 : List UInt8 := [184, 0, 203, 54, 5, 44, 42, 21, 4, 4, 96, 46, 42, 21, 4, 5, 96, 46, 42, 21, 4, 6, 96, 46]
abbrev dktL_law_40 : List UInt8 := dkwL_law_40 ++ dktL_law_41
def dkwL_law_39 : List UInt8 := [167, 9, 59, 43, 42, 21, 4, 4, 96, 46, 42, 21, 4, 5, 96, 46, 42, 21, 4, 6, 96, 46, 45]
abbrev dktL_law_39 : List UInt8 := dkwL_law_39 ++ dktL_law_40
def dkwL_law_38 : List UInt8 := [159, 0, 5, 3, 172, 21, 5, 154, 0, 15, 45, 3, 47, 21, 6, 133, 148, 153, 0, 5, 3, 172]
abbrev dktL_law_38 : List UInt8 := dkwL_law_38 ++ dktL_law_39
def dkwL_law_37 : List UInt8 := [21, 4, 4, 96, 46, 42, 21, 4, 5, 96, 46, 182, 0, 202, 54, 6, 44, 182, 0, 161, 21, 5]
abbrev dktL_law_37 : List UInt8 := dkwL_law_37 ++ dktL_law_38
def dkwL_law_36 : List UInt8 := [167, 9, 127, 43, 42, 21, 4, 4, 96, 46, 42, 21, 4, 5, 96, 46, 45, 184, 0, 200, 54, 5, 44, 42]
abbrev dktL_law_36 : List UInt8 := dkwL_law_36 ++ dktL_law_37
def dkwL_law_35 : List UInt8 := [21, 5, 159, 0, 5, 3, 172, 21, 5, 154, 0, 15, 45, 3, 47, 21, 6, 133, 148, 153, 0, 5, 3, 172]
abbrev dktL_law_35 : List UInt8 := dkwL_law_35 ++ dktL_law_36
def dkwL_law_34 : List UInt8 := [96, 46, 42, 21, 4, 5, 96, 46, 42, 21, 4, 6, 96, 46, 182, 0, 199, 54, 6, 44, 182, 0, 161]
abbrev dktL_law_34 : List UInt8 := dkwL_law_34 ++ dktL_law_35
def dkwL_law_33 : List UInt8 := [46, 42, 21, 4, 5, 96, 46, 42, 21, 4, 6, 96, 46, 45, 184, 0, 196, 54, 5, 44, 42, 21, 4, 4]
abbrev dktL_law_33 : List UInt8 := dkwL_law_33 ++ dktL_law_34
def dkwL_law_32 : List UInt8 := [154, 0, 15, 45, 3, 47, 21, 6, 133, 148, 153, 0, 5, 3, 172, 167, 9, 207, 43, 42, 21, 4, 4, 96]
abbrev dktL_law_32 : List UInt8 := dkwL_law_32 ++ dktL_law_33
def dkwL_law_31 : List UInt8 := [42, 21, 4, 5, 96, 46, 182, 0, 195, 54, 6, 44, 182, 0, 161, 21, 5, 159, 0, 5, 3, 172, 21, 5]
abbrev dktL_law_31 : List UInt8 := dkwL_law_31 ++ dktL_law_32
def dkwL_law_30 : List UInt8 := [21, 4, 4, 96, 46, 42, 21, 4, 5, 96, 46, 45, 184, 0, 193, 54, 5, 44, 42, 21, 4, 4, 96, 46]
abbrev dktL_law_30 : List UInt8 := dkwL_law_30 ++ dktL_law_31
def dkwL_law_29 : List UInt8 := [172, 21, 5, 154, 0, 15, 45, 3, 47, 21, 6, 133, 148, 153, 0, 5, 3, 172, 167, 10, 19, 43, 42]
abbrev dktL_law_29 : List UInt8 := dkwL_law_29 ++ dktL_law_30
def dkwL_law_28 : List UInt8 := [54, 5, 44, 42, 21, 4, 4, 96, 46, 182, 0, 192, 54, 6, 44, 182, 0, 161, 21, 5, 159, 0, 5, 3]
abbrev dktL_law_28 : List UInt8 := dkwL_law_28 ++ dktL_law_29
def dkwL_law_27 : List UInt8 := [21, 4, 8, 96, 46, 182, 0, 189, 159, 10, 77, 3, 172, 43, 42, 21, 4, 4, 96, 46, 45, 184, 0, 190]
abbrev dktL_law_27 : List UInt8 := dkwL_law_27 ++ dktL_law_28
def dkwL_law_26 : List UInt8 := [21, 4, 4, 96, 46, 42, 21, 4, 5, 96, 46, 42, 21, 4, 6, 96, 46, 42, 21, 4, 7, 96, 46, 42]
abbrev dktL_law_26 : List UInt8 := dkwL_law_26 ++ dktL_law_27
def dkwL_law_25 : List UInt8 := [46, 42, 21, 4, 6, 96, 46, 42, 21, 4, 7, 96, 46, 42, 21, 4, 8, 96, 46, 182, 0, 185, 44, 42]
abbrev dktL_law_25 : List UInt8 := dkwL_law_25 ++ dktL_law_26
def dkwL_law_24 : List UInt8 := [21, 6, 133, 148, 153, 0, 5, 3, 172, 167, 10, 148, 43, 42, 21, 4, 4, 96, 46, 42, 21, 4, 5, 96]
abbrev dktL_law_24 : List UInt8 := dkwL_law_24 ++ dktL_law_25
def dkwL_law_23 : List UInt8 := [182, 0, 184, 54, 6, 44, 182, 0, 161, 21, 5, 159, 0, 5, 3, 172, 21, 5, 154, 0, 15, 45, 3, 47]
abbrev dktL_law_23 : List UInt8 := dkwL_law_23 ++ dktL_law_24
def dkwL_law_22 : List UInt8 := [167, 10, 204, 43, 42, 21, 4, 4, 96, 46, 45, 184, 0, 182, 54, 5, 44, 42, 21, 4, 4, 96, 46]
abbrev dktL_law_22 : List UInt8 := dkwL_law_22 ++ dktL_law_23
def dkwL_law_21 : List UInt8 := [159, 0, 5, 3, 172, 21, 5, 154, 0, 15, 45, 3, 47, 21, 6, 133, 148, 153, 0, 5, 3, 172]
abbrev dktL_law_21 : List UInt8 := dkwL_law_21 ++ dktL_law_22
def dkwL_law_20 : List UInt8 := [21, 4, 4, 96, 46, 42, 21, 4, 5, 96, 46, 182, 0, 181, 54, 6, 44, 182, 0, 161, 21, 5]
abbrev dktL_law_20 : List UInt8 := dkwL_law_20 ++ dktL_law_21
def dkwL_law_19 : List UInt8 := [167, 11, 16, 43, 42, 21, 4, 4, 96, 46, 42, 21, 4, 5, 96, 46, 45, 184, 0, 179, 54, 5, 44, 42]
abbrev dktL_law_19 : List UInt8 := dkwL_law_19 ++ dktL_law_20
def dkwL_law_18 : List UInt8 := [159, 0, 5, 3, 172, 21, 5, 154, 0, 15, 45, 3, 47, 21, 6, 133, 148, 153, 0, 5, 3, 172]
abbrev dktL_law_18 : List UInt8 := dkwL_law_18 ++ dktL_law_19
def dkwL_law_17 : List UInt8 := [42, 21, 4, 6, 96, 46, 42, 21, 4, 7, 96, 46, 182, 0, 178, 54, 6, 44, 182, 0, 161, 21, 5]
abbrev dktL_law_17 : List UInt8 := dkwL_law_17 ++ dktL_law_18
def dkwL_law_16 : List UInt8 := [21, 4, 7, 96, 46, 45, 184, 0, 176, 54, 5, 44, 42, 21, 4, 4, 96, 46, 42, 21, 4, 5, 96, 46]
abbrev dktL_law_16 : List UInt8 := dkwL_law_16 ++ dktL_law_17
def dkwL_law_15 : List UInt8 := [167, 11, 108, 43, 42, 21, 4, 4, 96, 46, 42, 21, 4, 5, 96, 46, 42, 21, 4, 6, 96, 46, 42]
abbrev dktL_law_15 : List UInt8 := dkwL_law_15 ++ dktL_law_16
def dkwL_law_14 : List UInt8 := [159, 0, 5, 3, 172, 21, 5, 154, 0, 15, 45, 3, 47, 21, 6, 133, 148, 153, 0, 5, 3, 172]
abbrev dktL_law_14 : List UInt8 := dkwL_law_14 ++ dktL_law_15
def dkwL_law_13 : List UInt8 := [21, 4, 4, 96, 46, 42, 21, 4, 5, 96, 46, 182, 0, 175, 54, 6, 44, 182, 0, 161, 21, 5]
abbrev dktL_law_13 : List UInt8 := dkwL_law_13 ++ dktL_law_14
def dkwL_law_12 : List UInt8 := [167, 11, 176, 43, 42, 21, 4, 4, 96, 46, 42, 21, 4, 5, 96, 46, 45, 184, 0, 173, 54, 5, 44, 42]
abbrev dktL_law_12 : List UInt8 := dkwL_law_12 ++ dktL_law_13
def dkwL_law_11 : List UInt8 := [21, 5, 159, 0, 5, 3, 172, 21, 5, 154, 0, 15, 45, 3, 47, 21, 6, 133, 148, 153, 0, 5, 3, 172]
abbrev dktL_law_11 : List UInt8 := dkwL_law_11 ++ dktL_law_12
def dkwL_law_10 : List UInt8 := [46, 45, 184, 0, 169, 54, 5, 44, 42, 21, 4, 4, 96, 46, 182, 0, 172, 54, 6, 44, 182, 0, 161]
abbrev dktL_law_10 : List UInt8 := dkwL_law_10 ++ dktL_law_11
def dkwL_law_9 : List UInt8 := [154, 0, 15, 45, 3, 47, 21, 6, 133, 148, 153, 0, 5, 3, 172, 167, 11, 232, 43, 42, 21, 4, 4, 96]
abbrev dktL_law_9 : List UInt8 := dkwL_law_9 ++ dktL_law_10
def dkwL_law_8 : List UInt8 := [42, 21, 4, 7, 96, 46, 182, 0, 168, 54, 6, 44, 182, 0, 161, 21, 5, 159, 0, 5, 3, 172, 21, 5]
abbrev dktL_law_8 : List UInt8 := dkwL_law_8 ++ dktL_law_9
def dkwL_law_7 : List UInt8 := [184, 0, 165, 54, 5, 44, 42, 21, 4, 4, 96, 46, 42, 21, 4, 5, 96, 46, 42, 21, 4, 6, 96, 46]
abbrev dktL_law_7 : List UInt8 := dkwL_law_7 ++ dktL_law_8
def dkwL_law_6 : List UInt8 := [4, 96, 46, 42, 21, 4, 5, 96, 46, 42, 21, 4, 6, 96, 46, 42, 21, 4, 7, 96, 46, 45]
abbrev dktL_law_6 : List UInt8 := dkwL_law_6 ++ dktL_law_7
def dkwL_law_5 : List UInt8 := [21, 5, 154, 0, 15, 45, 3, 47, 21, 6, 133, 148, 153, 0, 5, 3, 172, 167, 12, 68, 43, 42, 21, 4]
abbrev dktL_law_5 : List UInt8 := dkwL_law_5 ++ dktL_law_6
def dkwL_law_4 : List UInt8 := [96, 46, 42, 21, 4, 5, 96, 46, 182, 0, 160, 54, 6, 44, 182, 0, 161, 21, 5, 159, 0, 5, 3, 172]
abbrev dktL_law_4 : List UInt8 := dkwL_law_4 ++ dktL_law_5
def dkwL_law_3 : List UInt8 := [43, 42, 21, 4, 4, 96, 46, 42, 21, 4, 5, 96, 46, 45, 184, 0, 155, 54, 5, 44, 42, 21, 4, 4]
abbrev dktL_law_3 : List UInt8 := dkwL_law_3 ++ dktL_law_4
def dkwL_law_2 : List UInt8 := [170, 0, 0, 0, 0, 0, 13, 77, 0, 0, 0, 0, 0, 0, 0, 45, 0, 0, 0, 200, 0, 0, 1, 12, 0, 0, 1, 104, 0, 0, 1, 160, 0, 0, 1, 228, 0, 0, 2, 64, 0, 0, 2, 132, 0, 0, 2, 188, 0, 0, 3, 5, 0, 0, 3, 61, 0, 0, 3, 129, 0, 0, 3, 209, 0, 0, 4, 21, 0, 0, 4, 101, 0, 0, 4, 169, 0, 0, 4, 249, 0, 0, 5, 61, 0, 0, 5, 74, 0, 0, 5, 130, 0, 0, 5, 198, 0, 0, 5, 223, 0, 0, 6, 23, 0, 0, 6, 91, 0, 0, 6, 175, 0, 0, 7, 22, 0, 0, 7, 114, 0, 0, 7, 182, 0, 0, 7, 250, 0, 0, 8, 86, 0, 0, 8, 142, 0, 0, 8, 234, 0, 0, 9, 46, 0, 0, 9, 126, 0, 0, 9, 213, 0, 0, 10, 25, 0, 0, 10, 105, 0, 0, 10, 173, 0, 0, 10, 241, 0, 0, 11, 41, 0, 0, 11, 109, 0, 0, 11, 177, 0, 0, 12, 1, 0, 0, 12, 92, 0, 0, 12, 160, 0, 0, 12, 228, 0, 0, 13, 52]
abbrev dktL_law_2 : List UInt8 := dkwL_law_2 ++ dktL_law_3
def dkwL_law_1 : List UInt8 := [21, 4, 42, 190, 16, 6, 100, 163, 13, 93, 42, 21, 4, 46, 16, 63, 126]
abbrev dktL_law_1 : List UInt8 := dkwL_law_1 ++ dktL_law_2
def dkwL_law_0 : List UInt8 := [187, 0, 8, 89, 183, 0, 151, 76, 187, 0, 152, 89, 183, 0, 154, 77, 4, 188, 11, 78, 3, 54, 4]
abbrev dktL_law_0 : List UInt8 := dkwL_law_0 ++ dktL_law_1
theorem dksL_law_0 : cL_law.data.toList.drop 0 = dktL_law_0 := by decide +kernel
theorem dksL_law_1 : cL_law.data.toList.drop 23 = dktL_law_1 := dk_seg dksL_law_0 23 rfl rfl
theorem dksL_law_2 : cL_law.data.toList.drop 40 = dktL_law_2 := dk_seg dksL_law_1 17 rfl rfl
theorem dksL_law_3 : cL_law.data.toList.drop 240 = dktL_law_3 := dk_seg dksL_law_2 200 rfl rfl
theorem dksL_law_4 : cL_law.data.toList.drop 264 = dktL_law_4 := dk_seg dksL_law_3 24 rfl rfl
theorem dksL_law_5 : cL_law.data.toList.drop 288 = dktL_law_5 := dk_seg dksL_law_4 24 rfl rfl
theorem dksL_law_6 : cL_law.data.toList.drop 312 = dktL_law_6 := dk_seg dksL_law_5 24 rfl rfl
theorem dksL_law_7 : cL_law.data.toList.drop 334 = dktL_law_7 := dk_seg dksL_law_6 22 rfl rfl
theorem dksL_law_8 : cL_law.data.toList.drop 358 = dktL_law_8 := dk_seg dksL_law_7 24 rfl rfl
theorem dksL_law_9 : cL_law.data.toList.drop 382 = dktL_law_9 := dk_seg dksL_law_8 24 rfl rfl
theorem dksL_law_10 : cL_law.data.toList.drop 406 = dktL_law_10 := dk_seg dksL_law_9 24 rfl rfl
theorem dksL_law_11 : cL_law.data.toList.drop 429 = dktL_law_11 := dk_seg dksL_law_10 23 rfl rfl
theorem dksL_law_12 : cL_law.data.toList.drop 453 = dktL_law_12 := dk_seg dksL_law_11 24 rfl rfl
theorem dksL_law_13 : cL_law.data.toList.drop 477 = dktL_law_13 := dk_seg dksL_law_12 24 rfl rfl
theorem dksL_law_14 : cL_law.data.toList.drop 499 = dktL_law_14 := dk_seg dksL_law_13 22 rfl rfl
theorem dksL_law_15 : cL_law.data.toList.drop 521 = dktL_law_15 := dk_seg dksL_law_14 22 rfl rfl
theorem dksL_law_16 : cL_law.data.toList.drop 544 = dktL_law_16 := dk_seg dksL_law_15 23 rfl rfl
theorem dksL_law_17 : cL_law.data.toList.drop 568 = dktL_law_17 := dk_seg dksL_law_16 24 rfl rfl
theorem dksL_law_18 : cL_law.data.toList.drop 591 = dktL_law_18 := dk_seg dksL_law_17 23 rfl rfl
theorem dksL_law_19 : cL_law.data.toList.drop 613 = dktL_law_19 := dk_seg dksL_law_18 22 rfl rfl
theorem dksL_law_20 : cL_law.data.toList.drop 637 = dktL_law_20 := dk_seg dksL_law_19 24 rfl rfl
theorem dksL_law_21 : cL_law.data.toList.drop 659 = dktL_law_21 := dk_seg dksL_law_20 22 rfl rfl
theorem dksL_law_22 : cL_law.data.toList.drop 681 = dktL_law_22 := dk_seg dksL_law_21 22 rfl rfl
theorem dksL_law_23 : cL_law.data.toList.drop 704 = dktL_law_23 := dk_seg dksL_law_22 23 rfl rfl
theorem dksL_law_24 : cL_law.data.toList.drop 728 = dktL_law_24 := dk_seg dksL_law_23 24 rfl rfl
theorem dksL_law_25 : cL_law.data.toList.drop 752 = dktL_law_25 := dk_seg dksL_law_24 24 rfl rfl
theorem dksL_law_26 : cL_law.data.toList.drop 776 = dktL_law_26 := dk_seg dksL_law_25 24 rfl rfl
theorem dksL_law_27 : cL_law.data.toList.drop 800 = dktL_law_27 := dk_seg dksL_law_26 24 rfl rfl
theorem dksL_law_28 : cL_law.data.toList.drop 824 = dktL_law_28 := dk_seg dksL_law_27 24 rfl rfl
theorem dksL_law_29 : cL_law.data.toList.drop 848 = dktL_law_29 := dk_seg dksL_law_28 24 rfl rfl
theorem dksL_law_30 : cL_law.data.toList.drop 871 = dktL_law_30 := dk_seg dksL_law_29 23 rfl rfl
theorem dksL_law_31 : cL_law.data.toList.drop 895 = dktL_law_31 := dk_seg dksL_law_30 24 rfl rfl
theorem dksL_law_32 : cL_law.data.toList.drop 919 = dktL_law_32 := dk_seg dksL_law_31 24 rfl rfl
theorem dksL_law_33 : cL_law.data.toList.drop 943 = dktL_law_33 := dk_seg dksL_law_32 24 rfl rfl
theorem dksL_law_34 : cL_law.data.toList.drop 967 = dktL_law_34 := dk_seg dksL_law_33 24 rfl rfl
theorem dksL_law_35 : cL_law.data.toList.drop 990 = dktL_law_35 := dk_seg dksL_law_34 23 rfl rfl
theorem dksL_law_36 : cL_law.data.toList.drop 1014 = dktL_law_36 := dk_seg dksL_law_35 24 rfl rfl
theorem dksL_law_37 : cL_law.data.toList.drop 1038 = dktL_law_37 := dk_seg dksL_law_36 24 rfl rfl
theorem dksL_law_38 : cL_law.data.toList.drop 1060 = dktL_law_38 := dk_seg dksL_law_37 22 rfl rfl
theorem dksL_law_39 : cL_law.data.toList.drop 1082 = dktL_law_39 := dk_seg dksL_law_38 22 rfl rfl
theorem dksL_law_40 : cL_law.data.toList.drop 1105 = dktL_law_40 := dk_seg dksL_law_39 23 rfl rfl
theorem dksL_law_41 : cL_law.data.toList.drop 1129 = dktL_law_41 := dk_seg dksL_law_40 24 rfl rfl
theorem dksL_law_42 : cL_law.data.toList.drop 1153 = dktL_law_42 := dk_seg dksL_law_41 24 rfl rfl
theorem dksL_law_43 : cL_law.data.toList.drop 1177 = dktL_law_43 := dk_seg dksL_law_42 24 rfl rfl
theorem dksL_law_44 : cL_law.data.toList.drop 1200 = dktL_law_44 := dk_seg dksL_law_43 23 rfl rfl
theorem dksL_law_45 : cL_law.data.toList.drop 1224 = dktL_law_45 := dk_seg dksL_law_44 24 rfl rfl
theorem dksL_law_46 : cL_law.data.toList.drop 1247 = dktL_law_46 := dk_seg dksL_law_45 23 rfl rfl
theorem dksL_law_47 : cL_law.data.toList.drop 1271 = dktL_law_47 := dk_seg dksL_law_46 24 rfl rfl
theorem dksL_law_48 : cL_law.data.toList.drop 1295 = dktL_law_48 := dk_seg dksL_law_47 24 rfl rfl
theorem dksL_law_49 : cL_law.data.toList.drop 1319 = dktL_law_49 := dk_seg dksL_law_48 24 rfl rfl
theorem dksL_law_50 : cL_law.data.toList.drop 1343 = dktL_law_50 := dk_seg dksL_law_49 24 rfl rfl
theorem dksL_law_51 : cL_law.data.toList.drop 1367 = dktL_law_51 := dk_seg dksL_law_50 24 rfl rfl
theorem dksL_law_52 : cL_law.data.toList.drop 1389 = dktL_law_52 := dk_seg dksL_law_51 22 rfl rfl
theorem dksL_law_53 : cL_law.data.toList.drop 1413 = dktL_law_53 := dk_seg dksL_law_52 24 rfl rfl
theorem dksL_law_54 : cL_law.data.toList.drop 1437 = dktL_law_54 := dk_seg dksL_law_53 24 rfl rfl
theorem dksL_law_55 : cL_law.data.toList.drop 1461 = dktL_law_55 := dk_seg dksL_law_54 24 rfl rfl
theorem dksL_law_56 : cL_law.data.toList.drop 1485 = dktL_law_56 := dk_seg dksL_law_55 24 rfl rfl
theorem dksL_law_57 : cL_law.data.toList.drop 1509 = dktL_law_57 := dk_seg dksL_law_56 24 rfl rfl
theorem dksL_law_58 : cL_law.data.toList.drop 1533 = dktL_law_58 := dk_seg dksL_law_57 24 rfl rfl
theorem dksL_law_59 : cL_law.data.toList.drop 1557 = dktL_law_59 := dk_seg dksL_law_58 24 rfl rfl
theorem dksL_law_60 : cL_law.data.toList.drop 1581 = dktL_law_60 := dk_seg dksL_law_59 24 rfl rfl
theorem dksL_law_61 : cL_law.data.toList.drop 1605 = dktL_law_61 := dk_seg dksL_law_60 24 rfl rfl
theorem dksL_law_62 : cL_law.data.toList.drop 1629 = dktL_law_62 := dk_seg dksL_law_61 24 rfl rfl
theorem dksL_law_63 : cL_law.data.toList.drop 1653 = dktL_law_63 := dk_seg dksL_law_62 24 rfl rfl
theorem dksL_law_64 : cL_law.data.toList.drop 1677 = dktL_law_64 := dk_seg dksL_law_63 24 rfl rfl
theorem dksL_law_65 : cL_law.data.toList.drop 1701 = dktL_law_65 := dk_seg dksL_law_64 24 rfl rfl
theorem dksL_law_66 : cL_law.data.toList.drop 1724 = dktL_law_66 := dk_seg dksL_law_65 23 rfl rfl
theorem dksL_law_67 : cL_law.data.toList.drop 1748 = dktL_law_67 := dk_seg dksL_law_66 24 rfl rfl
theorem dksL_law_68 : cL_law.data.toList.drop 1770 = dktL_law_68 := dk_seg dksL_law_67 22 rfl rfl
theorem dksL_law_69 : cL_law.data.toList.drop 1794 = dktL_law_69 := dk_seg dksL_law_68 24 rfl rfl
theorem dksL_law_70 : cL_law.data.toList.drop 1817 = dktL_law_70 := dk_seg dksL_law_69 23 rfl rfl
theorem dksL_law_71 : cL_law.data.toList.drop 1841 = dktL_law_71 := dk_seg dksL_law_70 24 rfl rfl
theorem dksL_law_72 : cL_law.data.toList.drop 1865 = dktL_law_72 := dk_seg dksL_law_71 24 rfl rfl
theorem dksL_law_73 : cL_law.data.toList.drop 1889 = dktL_law_73 := dk_seg dksL_law_72 24 rfl rfl
theorem dksL_law_74 : cL_law.data.toList.drop 1913 = dktL_law_74 := dk_seg dksL_law_73 24 rfl rfl
theorem dksL_law_75 : cL_law.data.toList.drop 1937 = dktL_law_75 := dk_seg dksL_law_74 24 rfl rfl
theorem dksL_law_76 : cL_law.data.toList.drop 1960 = dktL_law_76 := dk_seg dksL_law_75 23 rfl rfl
theorem dksL_law_77 : cL_law.data.toList.drop 1984 = dktL_law_77 := dk_seg dksL_law_76 24 rfl rfl
theorem dksL_law_78 : cL_law.data.toList.drop 2006 = dktL_law_78 := dk_seg dksL_law_77 22 rfl rfl
theorem dksL_law_79 : cL_law.data.toList.drop 2028 = dktL_law_79 := dk_seg dksL_law_78 22 rfl rfl
theorem dksL_law_80 : cL_law.data.toList.drop 2052 = dktL_law_80 := dk_seg dksL_law_79 24 rfl rfl
theorem dksL_law_81 : cL_law.data.toList.drop 2074 = dktL_law_81 := dk_seg dksL_law_80 22 rfl rfl
theorem dksL_law_82 : cL_law.data.toList.drop 2098 = dktL_law_82 := dk_seg dksL_law_81 24 rfl rfl
theorem dksL_law_83 : cL_law.data.toList.drop 2121 = dktL_law_83 := dk_seg dksL_law_82 23 rfl rfl
theorem dksL_law_84 : cL_law.data.toList.drop 2144 = dktL_law_84 := dk_seg dksL_law_83 23 rfl rfl
theorem dksL_law_85 : cL_law.data.toList.drop 2166 = dktL_law_85 := dk_seg dksL_law_84 22 rfl rfl
theorem dksL_law_86 : cL_law.data.toList.drop 2189 = dktL_law_86 := dk_seg dksL_law_85 23 rfl rfl
theorem dksL_law_87 : cL_law.data.toList.drop 2212 = dktL_law_87 := dk_seg dksL_law_86 23 rfl rfl
theorem dksL_law_88 : cL_law.data.toList.drop 2236 = dktL_law_88 := dk_seg dksL_law_87 24 rfl rfl
theorem dksL_law_89 : cL_law.data.toList.drop 2259 = dktL_law_89 := dk_seg dksL_law_88 23 rfl rfl
theorem dksL_law_90 : cL_law.data.toList.drop 2283 = dktL_law_90 := dk_seg dksL_law_89 24 rfl rfl
theorem dksL_law_91 : cL_law.data.toList.drop 2307 = dktL_law_91 := dk_seg dksL_law_90 24 rfl rfl
theorem dksL_law_92 : cL_law.data.toList.drop 2330 = dktL_law_92 := dk_seg dksL_law_91 23 rfl rfl
theorem dksL_law_93 : cL_law.data.toList.drop 2354 = dktL_law_93 := dk_seg dksL_law_92 24 rfl rfl
theorem dksL_law_94 : cL_law.data.toList.drop 2378 = dktL_law_94 := dk_seg dksL_law_93 24 rfl rfl
theorem dksL_law_95 : cL_law.data.toList.drop 2402 = dktL_law_95 := dk_seg dksL_law_94 24 rfl rfl
theorem dksL_law_96 : cL_law.data.toList.drop 2426 = dktL_law_96 := dk_seg dksL_law_95 24 rfl rfl
theorem dksL_law_97 : cL_law.data.toList.drop 2450 = dktL_law_97 := dk_seg dksL_law_96 24 rfl rfl
theorem dksL_law_98 : cL_law.data.toList.drop 2474 = dktL_law_98 := dk_seg dksL_law_97 24 rfl rfl
theorem dksL_law_99 : cL_law.data.toList.drop 2497 = dktL_law_99 := dk_seg dksL_law_98 23 rfl rfl
theorem dksL_law_100 : cL_law.data.toList.drop 2520 = dktL_law_100 := dk_seg dksL_law_99 23 rfl rfl
theorem dksL_law_101 : cL_law.data.toList.drop 2544 = dktL_law_101 := dk_seg dksL_law_100 24 rfl rfl
theorem dksL_law_102 : cL_law.data.toList.drop 2568 = dktL_law_102 := dk_seg dksL_law_101 24 rfl rfl
theorem dksL_law_103 : cL_law.data.toList.drop 2592 = dktL_law_103 := dk_seg dksL_law_102 24 rfl rfl
theorem dksL_law_104 : cL_law.data.toList.drop 2616 = dktL_law_104 := dk_seg dksL_law_103 24 rfl rfl
theorem dksL_law_105 : cL_law.data.toList.drop 2639 = dktL_law_105 := dk_seg dksL_law_104 23 rfl rfl
theorem dksL_law_106 : cL_law.data.toList.drop 2663 = dktL_law_106 := dk_seg dksL_law_105 24 rfl rfl
theorem dksL_law_107 : cL_law.data.toList.drop 2687 = dktL_law_107 := dk_seg dksL_law_106 24 rfl rfl
theorem dksL_law_108 : cL_law.data.toList.drop 2711 = dktL_law_108 := dk_seg dksL_law_107 24 rfl rfl
theorem dksL_law_109 : cL_law.data.toList.drop 2735 = dktL_law_109 := dk_seg dksL_law_108 24 rfl rfl
theorem dksL_law_110 : cL_law.data.toList.drop 2759 = dktL_law_110 := dk_seg dksL_law_109 24 rfl rfl
theorem dksL_law_111 : cL_law.data.toList.drop 2783 = dktL_law_111 := dk_seg dksL_law_110 24 rfl rfl
theorem dksL_law_112 : cL_law.data.toList.drop 2805 = dktL_law_112 := dk_seg dksL_law_111 22 rfl rfl
theorem dksL_law_113 : cL_law.data.toList.drop 2829 = dktL_law_113 := dk_seg dksL_law_112 24 rfl rfl
theorem dksL_law_114 : cL_law.data.toList.drop 2852 = dktL_law_114 := dk_seg dksL_law_113 23 rfl rfl
theorem dksL_law_115 : cL_law.data.toList.drop 2876 = dktL_law_115 := dk_seg dksL_law_114 24 rfl rfl
theorem dksL_law_116 : cL_law.data.toList.drop 2899 = dktL_law_116 := dk_seg dksL_law_115 23 rfl rfl
theorem dksL_law_117 : cL_law.data.toList.drop 2923 = dktL_law_117 := dk_seg dksL_law_116 24 rfl rfl
theorem dksL_law_118 : cL_law.data.toList.drop 2947 = dktL_law_118 := dk_seg dksL_law_117 24 rfl rfl
theorem dksL_law_119 : cL_law.data.toList.drop 2971 = dktL_law_119 := dk_seg dksL_law_118 24 rfl rfl
theorem dksL_law_120 : cL_law.data.toList.drop 2995 = dktL_law_120 := dk_seg dksL_law_119 24 rfl rfl
theorem dksL_law_121 : cL_law.data.toList.drop 3019 = dktL_law_121 := dk_seg dksL_law_120 24 rfl rfl
theorem dksL_law_122 : cL_law.data.toList.drop 3043 = dktL_law_122 := dk_seg dksL_law_121 24 rfl rfl
theorem dksL_law_123 : cL_law.data.toList.drop 3066 = dktL_law_123 := dk_seg dksL_law_122 23 rfl rfl
theorem dksL_law_124 : cL_law.data.toList.drop 3088 = dktL_law_124 := dk_seg dksL_law_123 22 rfl rfl
theorem dksL_law_125 : cL_law.data.toList.drop 3110 = dktL_law_125 := dk_seg dksL_law_124 22 rfl rfl
theorem dksL_law_126 : cL_law.data.toList.drop 3134 = dktL_law_126 := dk_seg dksL_law_125 24 rfl rfl
theorem dksL_law_127 : cL_law.data.toList.drop 3157 = dktL_law_127 := dk_seg dksL_law_126 23 rfl rfl
theorem dksL_law_128 : cL_law.data.toList.drop 3179 = dktL_law_128 := dk_seg dksL_law_127 22 rfl rfl
theorem dksL_law_129 : cL_law.data.toList.drop 3201 = dktL_law_129 := dk_seg dksL_law_128 22 rfl rfl
theorem dksL_law_130 : cL_law.data.toList.drop 3225 = dktL_law_130 := dk_seg dksL_law_129 24 rfl rfl
theorem dksL_law_131 : cL_law.data.toList.drop 3247 = dktL_law_131 := dk_seg dksL_law_130 22 rfl rfl
theorem dksL_law_132 : cL_law.data.toList.drop 3269 = dktL_law_132 := dk_seg dksL_law_131 22 rfl rfl
theorem dksL_law_133 : cL_law.data.toList.drop 3293 = dktL_law_133 := dk_seg dksL_law_132 24 rfl rfl
theorem dksL_law_134 : cL_law.data.toList.drop 3315 = dktL_law_134 := dk_seg dksL_law_133 22 rfl rfl
theorem dksL_law_135 : cL_law.data.toList.drop 3337 = dktL_law_135 := dk_seg dksL_law_134 22 rfl rfl
theorem dksL_law_136 : cL_law.data.toList.drop 3360 = dktL_law_136 := dk_seg dksL_law_135 23 rfl rfl
theorem dksL_law_137 : cL_law.data.toList.drop 3384 = dktL_law_137 := dk_seg dksL_law_136 24 rfl rfl
theorem dksL_law_138 : cL_law.data.toList.drop 3408 = dktL_law_138 := dk_seg dksL_law_137 24 rfl rfl
theorem dksL_law_139 : cL_law.data.toList.drop 3432 = dktL_law_139 := dk_seg dksL_law_138 24 rfl rfl
theorem dL_law_0 : decode cL_law 0 = .ok (.new 8, 3) := dk_187 0 8 (dk_at dksL_law_0 0 rfl rfl)
theorem dL_law_3 : decode cL_law 3 = .ok (.dup, 1) := dk_89 (dk_at dksL_law_0 3 rfl rfl)
theorem dL_law_4 : decode cL_law 4 = .ok (.invokespecial 151, 3) := dk_183 0 151 (dk_at dksL_law_0 4 rfl rfl)
theorem dL_law_7 : decode cL_law 7 = .ok (.astore_n 1, 1) := dk_76 (dk_at dksL_law_0 7 rfl rfl)
theorem dL_law_8 : decode cL_law 8 = .ok (.new 152, 3) := dk_187 0 152 (dk_at dksL_law_0 8 rfl rfl)
theorem dL_law_11 : decode cL_law 11 = .ok (.dup, 1) := dk_89 (dk_at dksL_law_0 11 rfl rfl)
theorem dL_law_12 : decode cL_law 12 = .ok (.invokespecial 154, 3) := dk_183 0 154 (dk_at dksL_law_0 12 rfl rfl)
theorem dL_law_15 : decode cL_law 15 = .ok (.astore_n 2, 1) := dk_77 (dk_at dksL_law_0 15 rfl rfl)
theorem dL_law_16 : decode cL_law 16 = .ok (.iconst 1, 1) := dk_4 (dk_at dksL_law_0 16 rfl rfl)
theorem dL_law_17 : decode cL_law 17 = .ok (.newarray .long, 2) := dk_188_11 (dk_at dksL_law_0 17 rfl rfl)
theorem dL_law_19 : decode cL_law 19 = .ok (.astore_n 3, 1) := dk_78 (dk_at dksL_law_0 19 rfl rfl)
theorem dL_law_20 : decode cL_law 20 = .ok (.iconst 0, 1) := dk_3 (dk_at dksL_law_0 20 rfl rfl)
theorem dL_law_21 : decode cL_law 21 = .ok (.istore 4, 2) := dk_54 4 (dk_at dksL_law_0 21 rfl rfl)
theorem dL_law_23 : decode cL_law 23 = .ok (.iload 4, 2) := dk_21 4 (dk_at dksL_law_1 0 rfl rfl)
theorem dL_law_25 : decode cL_law 25 = .ok (.aload_n 0, 1) := dk_42 (dk_at dksL_law_1 2 rfl rfl)
theorem dL_law_26 : decode cL_law 26 = .ok (.arraylength, 1) := dk_190 (dk_at dksL_law_1 3 rfl rfl)
theorem dL_law_27 : decode cL_law 27 = .ok (.bipush 6, 2) := dk_16 6 (dk_at dksL_law_1 4 rfl rfl)
theorem dL_law_29 : decode cL_law 29 = .ok (.isub, 1) := dk_100 (dk_at dksL_law_1 6 rfl rfl)
theorem dL_law_30 : decode cL_law 30 = .ok (.if_icmp .gt 3421, 3) := dk_163 13 93 (dk_at dksL_law_1 7 rfl rfl)
theorem dL_law_33 : decode cL_law 33 = .ok (.aload_n 0, 1) := dk_42 (dk_at dksL_law_1 10 rfl rfl)
theorem dL_law_34 : decode cL_law 34 = .ok (.iload 4, 2) := dk_21 4 (dk_at dksL_law_1 11 rfl rfl)
theorem dL_law_36 : decode cL_law 36 = .ok (.iaload, 1) := dk_46 (dk_at dksL_law_1 13 rfl rfl)
theorem dL_law_37 : decode cL_law 37 = .ok (.bipush 63, 2) := dk_16 63 (dk_at dksL_law_1 14 rfl rfl)
theorem dL_law_39 : decode cL_law 39 = .ok (.iand, 1) := dk_126 (dk_at dksL_law_1 16 rfl rfl)
theorem dL_law_40 : decode cL_law 40 = .ok (.tableswitch 3405 0 45 #[200, 268, 360, 416, 484, 576, 644, 700, 773, 829, 897, 977, 1045, 1125, 1193, 1273, 1341, 1354, 1410, 1478, 1503, 1559, 1627, 1711, 1814, 1906, 1974, 2042, 2134, 2190, 2282, 2350, 2430, 2517, 2585, 2665, 2733, 2801, 2857, 2925, 2993, 3073, 3164, 3232, 3300, 3380], 200) := by decide +kernel
theorem dL_law_240 : decode cL_law 240 = .ok (.aload_n 1, 1) := dk_43 (dk_at dksL_law_3 0 rfl rfl)
theorem dL_law_241 : decode cL_law 241 = .ok (.aload_n 0, 1) := dk_42 (dk_at dksL_law_3 1 rfl rfl)
theorem dL_law_242 : decode cL_law 242 = .ok (.iload 4, 2) := dk_21 4 (dk_at dksL_law_3 2 rfl rfl)
theorem dL_law_244 : decode cL_law 244 = .ok (.iconst 1, 1) := dk_4 (dk_at dksL_law_3 4 rfl rfl)
theorem dL_law_245 : decode cL_law 245 = .ok (.iadd, 1) := dk_96 (dk_at dksL_law_3 5 rfl rfl)
theorem dL_law_246 : decode cL_law 246 = .ok (.iaload, 1) := dk_46 (dk_at dksL_law_3 6 rfl rfl)
theorem dL_law_247 : decode cL_law 247 = .ok (.aload_n 0, 1) := dk_42 (dk_at dksL_law_3 7 rfl rfl)
theorem dL_law_248 : decode cL_law 248 = .ok (.iload 4, 2) := dk_21 4 (dk_at dksL_law_3 8 rfl rfl)
theorem dL_law_250 : decode cL_law 250 = .ok (.iconst 2, 1) := dk_5 (dk_at dksL_law_3 10 rfl rfl)
theorem dL_law_251 : decode cL_law 251 = .ok (.iadd, 1) := dk_96 (dk_at dksL_law_3 11 rfl rfl)
theorem dL_law_252 : decode cL_law 252 = .ok (.iaload, 1) := dk_46 (dk_at dksL_law_3 12 rfl rfl)
theorem dL_law_253 : decode cL_law 253 = .ok (.aload_n 3, 1) := dk_45 (dk_at dksL_law_3 13 rfl rfl)
theorem dL_law_254 : decode cL_law 254 = .ok (.invokestatic 155, 3) := dk_184 0 155 (dk_at dksL_law_3 14 rfl rfl)
theorem dL_law_257 : decode cL_law 257 = .ok (.istore 5, 2) := dk_54 5 (dk_at dksL_law_3 17 rfl rfl)
theorem dL_law_259 : decode cL_law 259 = .ok (.aload_n 2, 1) := dk_44 (dk_at dksL_law_3 19 rfl rfl)
theorem dL_law_260 : decode cL_law 260 = .ok (.aload_n 0, 1) := dk_42 (dk_at dksL_law_3 20 rfl rfl)
theorem dL_law_261 : decode cL_law 261 = .ok (.iload 4, 2) := dk_21 4 (dk_at dksL_law_3 21 rfl rfl)
theorem dL_law_263 : decode cL_law 263 = .ok (.iconst 1, 1) := dk_4 (dk_at dksL_law_3 23 rfl rfl)
theorem dL_law_264 : decode cL_law 264 = .ok (.iadd, 1) := dk_96 (dk_at dksL_law_4 0 rfl rfl)
theorem dL_law_265 : decode cL_law 265 = .ok (.iaload, 1) := dk_46 (dk_at dksL_law_4 1 rfl rfl)
theorem dL_law_266 : decode cL_law 266 = .ok (.aload_n 0, 1) := dk_42 (dk_at dksL_law_4 2 rfl rfl)
theorem dL_law_267 : decode cL_law 267 = .ok (.iload 4, 2) := dk_21 4 (dk_at dksL_law_4 3 rfl rfl)
theorem dL_law_269 : decode cL_law 269 = .ok (.iconst 2, 1) := dk_5 (dk_at dksL_law_4 5 rfl rfl)
theorem dL_law_270 : decode cL_law 270 = .ok (.iadd, 1) := dk_96 (dk_at dksL_law_4 6 rfl rfl)
theorem dL_law_271 : decode cL_law 271 = .ok (.iaload, 1) := dk_46 (dk_at dksL_law_4 7 rfl rfl)
theorem dL_law_272 : decode cL_law 272 = .ok (.invokevirtual 160, 3) := dk_182 0 160 (dk_at dksL_law_4 8 rfl rfl)
theorem dL_law_275 : decode cL_law 275 = .ok (.istore 6, 2) := dk_54 6 (dk_at dksL_law_4 11 rfl rfl)
theorem dL_law_277 : decode cL_law 277 = .ok (.aload_n 2, 1) := dk_44 (dk_at dksL_law_4 13 rfl rfl)
theorem dL_law_278 : decode cL_law 278 = .ok (.invokevirtual 161, 3) := dk_182 0 161 (dk_at dksL_law_4 14 rfl rfl)
theorem dL_law_281 : decode cL_law 281 = .ok (.iload 5, 2) := dk_21 5 (dk_at dksL_law_4 17 rfl rfl)
theorem dL_law_283 : decode cL_law 283 = .ok (.if_icmp .eq 5, 3) := dk_159 0 5 (dk_at dksL_law_4 19 rfl rfl)
theorem dL_law_286 : decode cL_law 286 = .ok (.iconst 0, 1) := dk_3 (dk_at dksL_law_4 22 rfl rfl)
theorem dL_law_287 : decode cL_law 287 = .ok (.ireturn, 1) := dk_172 (dk_at dksL_law_4 23 rfl rfl)
theorem dL_law_288 : decode cL_law 288 = .ok (.iload 5, 2) := dk_21 5 (dk_at dksL_law_5 0 rfl rfl)
theorem dL_law_290 : decode cL_law 290 = .ok (.ifCond .ne 15, 3) := dk_154 0 15 (dk_at dksL_law_5 2 rfl rfl)
theorem dL_law_293 : decode cL_law 293 = .ok (.aload_n 3, 1) := dk_45 (dk_at dksL_law_5 5 rfl rfl)
theorem dL_law_294 : decode cL_law 294 = .ok (.iconst 0, 1) := dk_3 (dk_at dksL_law_5 6 rfl rfl)
theorem dL_law_295 : decode cL_law 295 = .ok (.laload, 1) := dk_47 (dk_at dksL_law_5 7 rfl rfl)
theorem dL_law_296 : decode cL_law 296 = .ok (.iload 6, 2) := dk_21 6 (dk_at dksL_law_5 8 rfl rfl)
theorem dL_law_298 : decode cL_law 298 = .ok (.i2l, 1) := dk_133 (dk_at dksL_law_5 10 rfl rfl)
theorem dL_law_299 : decode cL_law 299 = .ok (.lcmp, 1) := dk_148 (dk_at dksL_law_5 11 rfl rfl)
theorem dL_law_300 : decode cL_law 300 = .ok (.ifCond .eq 5, 3) := dk_153 0 5 (dk_at dksL_law_5 12 rfl rfl)
theorem dL_law_303 : decode cL_law 303 = .ok (.iconst 0, 1) := dk_3 (dk_at dksL_law_5 15 rfl rfl)
theorem dL_law_304 : decode cL_law 304 = .ok (.ireturn, 1) := dk_172 (dk_at dksL_law_5 16 rfl rfl)
theorem dL_law_305 : decode cL_law 305 = .ok (.goto 3140, 3) := dk_167 12 68 (dk_at dksL_law_5 17 rfl rfl)
theorem dL_law_308 : decode cL_law 308 = .ok (.aload_n 1, 1) := dk_43 (dk_at dksL_law_5 20 rfl rfl)
theorem dL_law_309 : decode cL_law 309 = .ok (.aload_n 0, 1) := dk_42 (dk_at dksL_law_5 21 rfl rfl)
theorem dL_law_310 : decode cL_law 310 = .ok (.iload 4, 2) := dk_21 4 (dk_at dksL_law_5 22 rfl rfl)
theorem dL_law_312 : decode cL_law 312 = .ok (.iconst 1, 1) := dk_4 (dk_at dksL_law_6 0 rfl rfl)
theorem dL_law_313 : decode cL_law 313 = .ok (.iadd, 1) := dk_96 (dk_at dksL_law_6 1 rfl rfl)
theorem dL_law_314 : decode cL_law 314 = .ok (.iaload, 1) := dk_46 (dk_at dksL_law_6 2 rfl rfl)
theorem dL_law_315 : decode cL_law 315 = .ok (.aload_n 0, 1) := dk_42 (dk_at dksL_law_6 3 rfl rfl)
theorem dL_law_316 : decode cL_law 316 = .ok (.iload 4, 2) := dk_21 4 (dk_at dksL_law_6 4 rfl rfl)
theorem dL_law_318 : decode cL_law 318 = .ok (.iconst 2, 1) := dk_5 (dk_at dksL_law_6 6 rfl rfl)
theorem dL_law_319 : decode cL_law 319 = .ok (.iadd, 1) := dk_96 (dk_at dksL_law_6 7 rfl rfl)
theorem dL_law_320 : decode cL_law 320 = .ok (.iaload, 1) := dk_46 (dk_at dksL_law_6 8 rfl rfl)
theorem dL_law_321 : decode cL_law 321 = .ok (.aload_n 0, 1) := dk_42 (dk_at dksL_law_6 9 rfl rfl)
theorem dL_law_322 : decode cL_law 322 = .ok (.iload 4, 2) := dk_21 4 (dk_at dksL_law_6 10 rfl rfl)
theorem dL_law_324 : decode cL_law 324 = .ok (.iconst 3, 1) := dk_6 (dk_at dksL_law_6 12 rfl rfl)
theorem dL_law_325 : decode cL_law 325 = .ok (.iadd, 1) := dk_96 (dk_at dksL_law_6 13 rfl rfl)
theorem dL_law_326 : decode cL_law 326 = .ok (.iaload, 1) := dk_46 (dk_at dksL_law_6 14 rfl rfl)
theorem dL_law_327 : decode cL_law 327 = .ok (.aload_n 0, 1) := dk_42 (dk_at dksL_law_6 15 rfl rfl)
theorem dL_law_328 : decode cL_law 328 = .ok (.iload 4, 2) := dk_21 4 (dk_at dksL_law_6 16 rfl rfl)
theorem dL_law_330 : decode cL_law 330 = .ok (.iconst 4, 1) := dk_7 (dk_at dksL_law_6 18 rfl rfl)
theorem dL_law_331 : decode cL_law 331 = .ok (.iadd, 1) := dk_96 (dk_at dksL_law_6 19 rfl rfl)
theorem dL_law_332 : decode cL_law 332 = .ok (.iaload, 1) := dk_46 (dk_at dksL_law_6 20 rfl rfl)
theorem dL_law_333 : decode cL_law 333 = .ok (.aload_n 3, 1) := dk_45 (dk_at dksL_law_6 21 rfl rfl)
theorem dL_law_334 : decode cL_law 334 = .ok (.invokestatic 165, 3) := dk_184 0 165 (dk_at dksL_law_7 0 rfl rfl)
theorem dL_law_337 : decode cL_law 337 = .ok (.istore 5, 2) := dk_54 5 (dk_at dksL_law_7 3 rfl rfl)
theorem dL_law_339 : decode cL_law 339 = .ok (.aload_n 2, 1) := dk_44 (dk_at dksL_law_7 5 rfl rfl)
theorem dL_law_340 : decode cL_law 340 = .ok (.aload_n 0, 1) := dk_42 (dk_at dksL_law_7 6 rfl rfl)
theorem dL_law_341 : decode cL_law 341 = .ok (.iload 4, 2) := dk_21 4 (dk_at dksL_law_7 7 rfl rfl)
theorem dL_law_343 : decode cL_law 343 = .ok (.iconst 1, 1) := dk_4 (dk_at dksL_law_7 9 rfl rfl)
theorem dL_law_344 : decode cL_law 344 = .ok (.iadd, 1) := dk_96 (dk_at dksL_law_7 10 rfl rfl)
theorem dL_law_345 : decode cL_law 345 = .ok (.iaload, 1) := dk_46 (dk_at dksL_law_7 11 rfl rfl)
theorem dL_law_346 : decode cL_law 346 = .ok (.aload_n 0, 1) := dk_42 (dk_at dksL_law_7 12 rfl rfl)
theorem dL_law_347 : decode cL_law 347 = .ok (.iload 4, 2) := dk_21 4 (dk_at dksL_law_7 13 rfl rfl)
theorem dL_law_349 : decode cL_law 349 = .ok (.iconst 2, 1) := dk_5 (dk_at dksL_law_7 15 rfl rfl)
theorem dL_law_350 : decode cL_law 350 = .ok (.iadd, 1) := dk_96 (dk_at dksL_law_7 16 rfl rfl)
theorem dL_law_351 : decode cL_law 351 = .ok (.iaload, 1) := dk_46 (dk_at dksL_law_7 17 rfl rfl)
theorem dL_law_352 : decode cL_law 352 = .ok (.aload_n 0, 1) := dk_42 (dk_at dksL_law_7 18 rfl rfl)
theorem dL_law_353 : decode cL_law 353 = .ok (.iload 4, 2) := dk_21 4 (dk_at dksL_law_7 19 rfl rfl)
theorem dL_law_355 : decode cL_law 355 = .ok (.iconst 3, 1) := dk_6 (dk_at dksL_law_7 21 rfl rfl)
theorem dL_law_356 : decode cL_law 356 = .ok (.iadd, 1) := dk_96 (dk_at dksL_law_7 22 rfl rfl)
theorem dL_law_357 : decode cL_law 357 = .ok (.iaload, 1) := dk_46 (dk_at dksL_law_7 23 rfl rfl)
theorem dL_law_358 : decode cL_law 358 = .ok (.aload_n 0, 1) := dk_42 (dk_at dksL_law_8 0 rfl rfl)
theorem dL_law_359 : decode cL_law 359 = .ok (.iload 4, 2) := dk_21 4 (dk_at dksL_law_8 1 rfl rfl)
theorem dL_law_361 : decode cL_law 361 = .ok (.iconst 4, 1) := dk_7 (dk_at dksL_law_8 3 rfl rfl)
theorem dL_law_362 : decode cL_law 362 = .ok (.iadd, 1) := dk_96 (dk_at dksL_law_8 4 rfl rfl)
theorem dL_law_363 : decode cL_law 363 = .ok (.iaload, 1) := dk_46 (dk_at dksL_law_8 5 rfl rfl)
theorem dL_law_364 : decode cL_law 364 = .ok (.invokevirtual 168, 3) := dk_182 0 168 (dk_at dksL_law_8 6 rfl rfl)
theorem dL_law_367 : decode cL_law 367 = .ok (.istore 6, 2) := dk_54 6 (dk_at dksL_law_8 9 rfl rfl)
theorem dL_law_369 : decode cL_law 369 = .ok (.aload_n 2, 1) := dk_44 (dk_at dksL_law_8 11 rfl rfl)
theorem dL_law_370 : decode cL_law 370 = .ok (.invokevirtual 161, 3) := dk_182 0 161 (dk_at dksL_law_8 12 rfl rfl)
theorem dL_law_373 : decode cL_law 373 = .ok (.iload 5, 2) := dk_21 5 (dk_at dksL_law_8 15 rfl rfl)
theorem dL_law_375 : decode cL_law 375 = .ok (.if_icmp .eq 5, 3) := dk_159 0 5 (dk_at dksL_law_8 17 rfl rfl)
theorem dL_law_378 : decode cL_law 378 = .ok (.iconst 0, 1) := dk_3 (dk_at dksL_law_8 20 rfl rfl)
theorem dL_law_379 : decode cL_law 379 = .ok (.ireturn, 1) := dk_172 (dk_at dksL_law_8 21 rfl rfl)
theorem dL_law_380 : decode cL_law 380 = .ok (.iload 5, 2) := dk_21 5 (dk_at dksL_law_8 22 rfl rfl)
theorem dL_law_382 : decode cL_law 382 = .ok (.ifCond .ne 15, 3) := dk_154 0 15 (dk_at dksL_law_9 0 rfl rfl)
theorem dL_law_385 : decode cL_law 385 = .ok (.aload_n 3, 1) := dk_45 (dk_at dksL_law_9 3 rfl rfl)
theorem dL_law_386 : decode cL_law 386 = .ok (.iconst 0, 1) := dk_3 (dk_at dksL_law_9 4 rfl rfl)
theorem dL_law_387 : decode cL_law 387 = .ok (.laload, 1) := dk_47 (dk_at dksL_law_9 5 rfl rfl)
theorem dL_law_388 : decode cL_law 388 = .ok (.iload 6, 2) := dk_21 6 (dk_at dksL_law_9 6 rfl rfl)
theorem dL_law_390 : decode cL_law 390 = .ok (.i2l, 1) := dk_133 (dk_at dksL_law_9 8 rfl rfl)
theorem dL_law_391 : decode cL_law 391 = .ok (.lcmp, 1) := dk_148 (dk_at dksL_law_9 9 rfl rfl)
theorem dL_law_392 : decode cL_law 392 = .ok (.ifCond .eq 5, 3) := dk_153 0 5 (dk_at dksL_law_9 10 rfl rfl)
theorem dL_law_395 : decode cL_law 395 = .ok (.iconst 0, 1) := dk_3 (dk_at dksL_law_9 13 rfl rfl)
theorem dL_law_396 : decode cL_law 396 = .ok (.ireturn, 1) := dk_172 (dk_at dksL_law_9 14 rfl rfl)
theorem dL_law_397 : decode cL_law 397 = .ok (.goto 3048, 3) := dk_167 11 232 (dk_at dksL_law_9 15 rfl rfl)
theorem dL_law_400 : decode cL_law 400 = .ok (.aload_n 1, 1) := dk_43 (dk_at dksL_law_9 18 rfl rfl)
theorem dL_law_401 : decode cL_law 401 = .ok (.aload_n 0, 1) := dk_42 (dk_at dksL_law_9 19 rfl rfl)
theorem dL_law_402 : decode cL_law 402 = .ok (.iload 4, 2) := dk_21 4 (dk_at dksL_law_9 20 rfl rfl)
theorem dL_law_404 : decode cL_law 404 = .ok (.iconst 1, 1) := dk_4 (dk_at dksL_law_9 22 rfl rfl)
theorem dL_law_405 : decode cL_law 405 = .ok (.iadd, 1) := dk_96 (dk_at dksL_law_9 23 rfl rfl)
theorem dL_law_406 : decode cL_law 406 = .ok (.iaload, 1) := dk_46 (dk_at dksL_law_10 0 rfl rfl)
theorem dL_law_407 : decode cL_law 407 = .ok (.aload_n 3, 1) := dk_45 (dk_at dksL_law_10 1 rfl rfl)
theorem dL_law_408 : decode cL_law 408 = .ok (.invokestatic 169, 3) := dk_184 0 169 (dk_at dksL_law_10 2 rfl rfl)
theorem dL_law_411 : decode cL_law 411 = .ok (.istore 5, 2) := dk_54 5 (dk_at dksL_law_10 5 rfl rfl)
theorem dL_law_413 : decode cL_law 413 = .ok (.aload_n 2, 1) := dk_44 (dk_at dksL_law_10 7 rfl rfl)
theorem dL_law_414 : decode cL_law 414 = .ok (.aload_n 0, 1) := dk_42 (dk_at dksL_law_10 8 rfl rfl)
theorem dL_law_415 : decode cL_law 415 = .ok (.iload 4, 2) := dk_21 4 (dk_at dksL_law_10 9 rfl rfl)
theorem dL_law_417 : decode cL_law 417 = .ok (.iconst 1, 1) := dk_4 (dk_at dksL_law_10 11 rfl rfl)
theorem dL_law_418 : decode cL_law 418 = .ok (.iadd, 1) := dk_96 (dk_at dksL_law_10 12 rfl rfl)
theorem dL_law_419 : decode cL_law 419 = .ok (.iaload, 1) := dk_46 (dk_at dksL_law_10 13 rfl rfl)
theorem dL_law_420 : decode cL_law 420 = .ok (.invokevirtual 172, 3) := dk_182 0 172 (dk_at dksL_law_10 14 rfl rfl)
theorem dL_law_423 : decode cL_law 423 = .ok (.istore 6, 2) := dk_54 6 (dk_at dksL_law_10 17 rfl rfl)
theorem dL_law_425 : decode cL_law 425 = .ok (.aload_n 2, 1) := dk_44 (dk_at dksL_law_10 19 rfl rfl)
theorem dL_law_426 : decode cL_law 426 = .ok (.invokevirtual 161, 3) := dk_182 0 161 (dk_at dksL_law_10 20 rfl rfl)
theorem dL_law_429 : decode cL_law 429 = .ok (.iload 5, 2) := dk_21 5 (dk_at dksL_law_11 0 rfl rfl)
theorem dL_law_431 : decode cL_law 431 = .ok (.if_icmp .eq 5, 3) := dk_159 0 5 (dk_at dksL_law_11 2 rfl rfl)
theorem dL_law_434 : decode cL_law 434 = .ok (.iconst 0, 1) := dk_3 (dk_at dksL_law_11 5 rfl rfl)
theorem dL_law_435 : decode cL_law 435 = .ok (.ireturn, 1) := dk_172 (dk_at dksL_law_11 6 rfl rfl)
theorem dL_law_436 : decode cL_law 436 = .ok (.iload 5, 2) := dk_21 5 (dk_at dksL_law_11 7 rfl rfl)
theorem dL_law_438 : decode cL_law 438 = .ok (.ifCond .ne 15, 3) := dk_154 0 15 (dk_at dksL_law_11 9 rfl rfl)
theorem dL_law_441 : decode cL_law 441 = .ok (.aload_n 3, 1) := dk_45 (dk_at dksL_law_11 12 rfl rfl)
theorem dL_law_442 : decode cL_law 442 = .ok (.iconst 0, 1) := dk_3 (dk_at dksL_law_11 13 rfl rfl)
theorem dL_law_443 : decode cL_law 443 = .ok (.laload, 1) := dk_47 (dk_at dksL_law_11 14 rfl rfl)
theorem dL_law_444 : decode cL_law 444 = .ok (.iload 6, 2) := dk_21 6 (dk_at dksL_law_11 15 rfl rfl)
theorem dL_law_446 : decode cL_law 446 = .ok (.i2l, 1) := dk_133 (dk_at dksL_law_11 17 rfl rfl)
theorem dL_law_447 : decode cL_law 447 = .ok (.lcmp, 1) := dk_148 (dk_at dksL_law_11 18 rfl rfl)
theorem dL_law_448 : decode cL_law 448 = .ok (.ifCond .eq 5, 3) := dk_153 0 5 (dk_at dksL_law_11 19 rfl rfl)
theorem dL_law_451 : decode cL_law 451 = .ok (.iconst 0, 1) := dk_3 (dk_at dksL_law_11 22 rfl rfl)
theorem dL_law_452 : decode cL_law 452 = .ok (.ireturn, 1) := dk_172 (dk_at dksL_law_11 23 rfl rfl)
theorem dL_law_453 : decode cL_law 453 = .ok (.goto 2992, 3) := dk_167 11 176 (dk_at dksL_law_12 0 rfl rfl)
theorem dL_law_456 : decode cL_law 456 = .ok (.aload_n 1, 1) := dk_43 (dk_at dksL_law_12 3 rfl rfl)
theorem dL_law_457 : decode cL_law 457 = .ok (.aload_n 0, 1) := dk_42 (dk_at dksL_law_12 4 rfl rfl)
theorem dL_law_458 : decode cL_law 458 = .ok (.iload 4, 2) := dk_21 4 (dk_at dksL_law_12 5 rfl rfl)
theorem dL_law_460 : decode cL_law 460 = .ok (.iconst 1, 1) := dk_4 (dk_at dksL_law_12 7 rfl rfl)
theorem dL_law_461 : decode cL_law 461 = .ok (.iadd, 1) := dk_96 (dk_at dksL_law_12 8 rfl rfl)
theorem dL_law_462 : decode cL_law 462 = .ok (.iaload, 1) := dk_46 (dk_at dksL_law_12 9 rfl rfl)
theorem dL_law_463 : decode cL_law 463 = .ok (.aload_n 0, 1) := dk_42 (dk_at dksL_law_12 10 rfl rfl)
theorem dL_law_464 : decode cL_law 464 = .ok (.iload 4, 2) := dk_21 4 (dk_at dksL_law_12 11 rfl rfl)
theorem dL_law_466 : decode cL_law 466 = .ok (.iconst 2, 1) := dk_5 (dk_at dksL_law_12 13 rfl rfl)
theorem dL_law_467 : decode cL_law 467 = .ok (.iadd, 1) := dk_96 (dk_at dksL_law_12 14 rfl rfl)
theorem dL_law_468 : decode cL_law 468 = .ok (.iaload, 1) := dk_46 (dk_at dksL_law_12 15 rfl rfl)
theorem dL_law_469 : decode cL_law 469 = .ok (.aload_n 3, 1) := dk_45 (dk_at dksL_law_12 16 rfl rfl)
theorem dL_law_470 : decode cL_law 470 = .ok (.invokestatic 173, 3) := dk_184 0 173 (dk_at dksL_law_12 17 rfl rfl)
theorem dL_law_473 : decode cL_law 473 = .ok (.istore 5, 2) := dk_54 5 (dk_at dksL_law_12 20 rfl rfl)
theorem dL_law_475 : decode cL_law 475 = .ok (.aload_n 2, 1) := dk_44 (dk_at dksL_law_12 22 rfl rfl)
theorem dL_law_476 : decode cL_law 476 = .ok (.aload_n 0, 1) := dk_42 (dk_at dksL_law_12 23 rfl rfl)
theorem dL_law_477 : decode cL_law 477 = .ok (.iload 4, 2) := dk_21 4 (dk_at dksL_law_13 0 rfl rfl)
theorem dL_law_479 : decode cL_law 479 = .ok (.iconst 1, 1) := dk_4 (dk_at dksL_law_13 2 rfl rfl)
theorem dL_law_480 : decode cL_law 480 = .ok (.iadd, 1) := dk_96 (dk_at dksL_law_13 3 rfl rfl)
theorem dL_law_481 : decode cL_law 481 = .ok (.iaload, 1) := dk_46 (dk_at dksL_law_13 4 rfl rfl)
theorem dL_law_482 : decode cL_law 482 = .ok (.aload_n 0, 1) := dk_42 (dk_at dksL_law_13 5 rfl rfl)
theorem dL_law_483 : decode cL_law 483 = .ok (.iload 4, 2) := dk_21 4 (dk_at dksL_law_13 6 rfl rfl)
theorem dL_law_485 : decode cL_law 485 = .ok (.iconst 2, 1) := dk_5 (dk_at dksL_law_13 8 rfl rfl)
theorem dL_law_486 : decode cL_law 486 = .ok (.iadd, 1) := dk_96 (dk_at dksL_law_13 9 rfl rfl)
theorem dL_law_487 : decode cL_law 487 = .ok (.iaload, 1) := dk_46 (dk_at dksL_law_13 10 rfl rfl)
theorem dL_law_488 : decode cL_law 488 = .ok (.invokevirtual 175, 3) := dk_182 0 175 (dk_at dksL_law_13 11 rfl rfl)
theorem dL_law_491 : decode cL_law 491 = .ok (.istore 6, 2) := dk_54 6 (dk_at dksL_law_13 14 rfl rfl)
theorem dL_law_493 : decode cL_law 493 = .ok (.aload_n 2, 1) := dk_44 (dk_at dksL_law_13 16 rfl rfl)
theorem dL_law_494 : decode cL_law 494 = .ok (.invokevirtual 161, 3) := dk_182 0 161 (dk_at dksL_law_13 17 rfl rfl)
theorem dL_law_497 : decode cL_law 497 = .ok (.iload 5, 2) := dk_21 5 (dk_at dksL_law_13 20 rfl rfl)
theorem dL_law_499 : decode cL_law 499 = .ok (.if_icmp .eq 5, 3) := dk_159 0 5 (dk_at dksL_law_14 0 rfl rfl)
theorem dL_law_502 : decode cL_law 502 = .ok (.iconst 0, 1) := dk_3 (dk_at dksL_law_14 3 rfl rfl)
theorem dL_law_503 : decode cL_law 503 = .ok (.ireturn, 1) := dk_172 (dk_at dksL_law_14 4 rfl rfl)
theorem dL_law_504 : decode cL_law 504 = .ok (.iload 5, 2) := dk_21 5 (dk_at dksL_law_14 5 rfl rfl)
theorem dL_law_506 : decode cL_law 506 = .ok (.ifCond .ne 15, 3) := dk_154 0 15 (dk_at dksL_law_14 7 rfl rfl)
theorem dL_law_509 : decode cL_law 509 = .ok (.aload_n 3, 1) := dk_45 (dk_at dksL_law_14 10 rfl rfl)
theorem dL_law_510 : decode cL_law 510 = .ok (.iconst 0, 1) := dk_3 (dk_at dksL_law_14 11 rfl rfl)
theorem dL_law_511 : decode cL_law 511 = .ok (.laload, 1) := dk_47 (dk_at dksL_law_14 12 rfl rfl)
theorem dL_law_512 : decode cL_law 512 = .ok (.iload 6, 2) := dk_21 6 (dk_at dksL_law_14 13 rfl rfl)
theorem dL_law_514 : decode cL_law 514 = .ok (.i2l, 1) := dk_133 (dk_at dksL_law_14 15 rfl rfl)
theorem dL_law_515 : decode cL_law 515 = .ok (.lcmp, 1) := dk_148 (dk_at dksL_law_14 16 rfl rfl)
theorem dL_law_516 : decode cL_law 516 = .ok (.ifCond .eq 5, 3) := dk_153 0 5 (dk_at dksL_law_14 17 rfl rfl)
theorem dL_law_519 : decode cL_law 519 = .ok (.iconst 0, 1) := dk_3 (dk_at dksL_law_14 20 rfl rfl)
theorem dL_law_520 : decode cL_law 520 = .ok (.ireturn, 1) := dk_172 (dk_at dksL_law_14 21 rfl rfl)
theorem dL_law_521 : decode cL_law 521 = .ok (.goto 2924, 3) := dk_167 11 108 (dk_at dksL_law_15 0 rfl rfl)
theorem dL_law_524 : decode cL_law 524 = .ok (.aload_n 1, 1) := dk_43 (dk_at dksL_law_15 3 rfl rfl)
theorem dL_law_525 : decode cL_law 525 = .ok (.aload_n 0, 1) := dk_42 (dk_at dksL_law_15 4 rfl rfl)
theorem dL_law_526 : decode cL_law 526 = .ok (.iload 4, 2) := dk_21 4 (dk_at dksL_law_15 5 rfl rfl)
theorem dL_law_528 : decode cL_law 528 = .ok (.iconst 1, 1) := dk_4 (dk_at dksL_law_15 7 rfl rfl)
theorem dL_law_529 : decode cL_law 529 = .ok (.iadd, 1) := dk_96 (dk_at dksL_law_15 8 rfl rfl)
theorem dL_law_530 : decode cL_law 530 = .ok (.iaload, 1) := dk_46 (dk_at dksL_law_15 9 rfl rfl)
theorem dL_law_531 : decode cL_law 531 = .ok (.aload_n 0, 1) := dk_42 (dk_at dksL_law_15 10 rfl rfl)
theorem dL_law_532 : decode cL_law 532 = .ok (.iload 4, 2) := dk_21 4 (dk_at dksL_law_15 11 rfl rfl)
theorem dL_law_534 : decode cL_law 534 = .ok (.iconst 2, 1) := dk_5 (dk_at dksL_law_15 13 rfl rfl)
theorem dL_law_535 : decode cL_law 535 = .ok (.iadd, 1) := dk_96 (dk_at dksL_law_15 14 rfl rfl)
theorem dL_law_536 : decode cL_law 536 = .ok (.iaload, 1) := dk_46 (dk_at dksL_law_15 15 rfl rfl)
theorem dL_law_537 : decode cL_law 537 = .ok (.aload_n 0, 1) := dk_42 (dk_at dksL_law_15 16 rfl rfl)
theorem dL_law_538 : decode cL_law 538 = .ok (.iload 4, 2) := dk_21 4 (dk_at dksL_law_15 17 rfl rfl)
theorem dL_law_540 : decode cL_law 540 = .ok (.iconst 3, 1) := dk_6 (dk_at dksL_law_15 19 rfl rfl)
theorem dL_law_541 : decode cL_law 541 = .ok (.iadd, 1) := dk_96 (dk_at dksL_law_15 20 rfl rfl)
theorem dL_law_542 : decode cL_law 542 = .ok (.iaload, 1) := dk_46 (dk_at dksL_law_15 21 rfl rfl)
theorem dL_law_543 : decode cL_law 543 = .ok (.aload_n 0, 1) := dk_42 (dk_at dksL_law_15 22 rfl rfl)
theorem dL_law_544 : decode cL_law 544 = .ok (.iload 4, 2) := dk_21 4 (dk_at dksL_law_16 0 rfl rfl)
theorem dL_law_546 : decode cL_law 546 = .ok (.iconst 4, 1) := dk_7 (dk_at dksL_law_16 2 rfl rfl)
theorem dL_law_547 : decode cL_law 547 = .ok (.iadd, 1) := dk_96 (dk_at dksL_law_16 3 rfl rfl)
theorem dL_law_548 : decode cL_law 548 = .ok (.iaload, 1) := dk_46 (dk_at dksL_law_16 4 rfl rfl)
theorem dL_law_549 : decode cL_law 549 = .ok (.aload_n 3, 1) := dk_45 (dk_at dksL_law_16 5 rfl rfl)
theorem dL_law_550 : decode cL_law 550 = .ok (.invokestatic 176, 3) := dk_184 0 176 (dk_at dksL_law_16 6 rfl rfl)
theorem dL_law_553 : decode cL_law 553 = .ok (.istore 5, 2) := dk_54 5 (dk_at dksL_law_16 9 rfl rfl)
theorem dL_law_555 : decode cL_law 555 = .ok (.aload_n 2, 1) := dk_44 (dk_at dksL_law_16 11 rfl rfl)
theorem dL_law_556 : decode cL_law 556 = .ok (.aload_n 0, 1) := dk_42 (dk_at dksL_law_16 12 rfl rfl)
theorem dL_law_557 : decode cL_law 557 = .ok (.iload 4, 2) := dk_21 4 (dk_at dksL_law_16 13 rfl rfl)
theorem dL_law_559 : decode cL_law 559 = .ok (.iconst 1, 1) := dk_4 (dk_at dksL_law_16 15 rfl rfl)
theorem dL_law_560 : decode cL_law 560 = .ok (.iadd, 1) := dk_96 (dk_at dksL_law_16 16 rfl rfl)
theorem dL_law_561 : decode cL_law 561 = .ok (.iaload, 1) := dk_46 (dk_at dksL_law_16 17 rfl rfl)
theorem dL_law_562 : decode cL_law 562 = .ok (.aload_n 0, 1) := dk_42 (dk_at dksL_law_16 18 rfl rfl)
theorem dL_law_563 : decode cL_law 563 = .ok (.iload 4, 2) := dk_21 4 (dk_at dksL_law_16 19 rfl rfl)
theorem dL_law_565 : decode cL_law 565 = .ok (.iconst 2, 1) := dk_5 (dk_at dksL_law_16 21 rfl rfl)
theorem dL_law_566 : decode cL_law 566 = .ok (.iadd, 1) := dk_96 (dk_at dksL_law_16 22 rfl rfl)
theorem dL_law_567 : decode cL_law 567 = .ok (.iaload, 1) := dk_46 (dk_at dksL_law_16 23 rfl rfl)
theorem dL_law_568 : decode cL_law 568 = .ok (.aload_n 0, 1) := dk_42 (dk_at dksL_law_17 0 rfl rfl)
theorem dL_law_569 : decode cL_law 569 = .ok (.iload 4, 2) := dk_21 4 (dk_at dksL_law_17 1 rfl rfl)
theorem dL_law_571 : decode cL_law 571 = .ok (.iconst 3, 1) := dk_6 (dk_at dksL_law_17 3 rfl rfl)
theorem dL_law_572 : decode cL_law 572 = .ok (.iadd, 1) := dk_96 (dk_at dksL_law_17 4 rfl rfl)
theorem dL_law_573 : decode cL_law 573 = .ok (.iaload, 1) := dk_46 (dk_at dksL_law_17 5 rfl rfl)
theorem dL_law_574 : decode cL_law 574 = .ok (.aload_n 0, 1) := dk_42 (dk_at dksL_law_17 6 rfl rfl)
theorem dL_law_575 : decode cL_law 575 = .ok (.iload 4, 2) := dk_21 4 (dk_at dksL_law_17 7 rfl rfl)
theorem dL_law_577 : decode cL_law 577 = .ok (.iconst 4, 1) := dk_7 (dk_at dksL_law_17 9 rfl rfl)
theorem dL_law_578 : decode cL_law 578 = .ok (.iadd, 1) := dk_96 (dk_at dksL_law_17 10 rfl rfl)
theorem dL_law_579 : decode cL_law 579 = .ok (.iaload, 1) := dk_46 (dk_at dksL_law_17 11 rfl rfl)
theorem dL_law_580 : decode cL_law 580 = .ok (.invokevirtual 178, 3) := dk_182 0 178 (dk_at dksL_law_17 12 rfl rfl)
theorem dL_law_583 : decode cL_law 583 = .ok (.istore 6, 2) := dk_54 6 (dk_at dksL_law_17 15 rfl rfl)
theorem dL_law_585 : decode cL_law 585 = .ok (.aload_n 2, 1) := dk_44 (dk_at dksL_law_17 17 rfl rfl)
theorem dL_law_586 : decode cL_law 586 = .ok (.invokevirtual 161, 3) := dk_182 0 161 (dk_at dksL_law_17 18 rfl rfl)
theorem dL_law_589 : decode cL_law 589 = .ok (.iload 5, 2) := dk_21 5 (dk_at dksL_law_17 21 rfl rfl)
theorem dL_law_591 : decode cL_law 591 = .ok (.if_icmp .eq 5, 3) := dk_159 0 5 (dk_at dksL_law_18 0 rfl rfl)
theorem dL_law_594 : decode cL_law 594 = .ok (.iconst 0, 1) := dk_3 (dk_at dksL_law_18 3 rfl rfl)
theorem dL_law_595 : decode cL_law 595 = .ok (.ireturn, 1) := dk_172 (dk_at dksL_law_18 4 rfl rfl)
theorem dL_law_596 : decode cL_law 596 = .ok (.iload 5, 2) := dk_21 5 (dk_at dksL_law_18 5 rfl rfl)
theorem dL_law_598 : decode cL_law 598 = .ok (.ifCond .ne 15, 3) := dk_154 0 15 (dk_at dksL_law_18 7 rfl rfl)
theorem dL_law_601 : decode cL_law 601 = .ok (.aload_n 3, 1) := dk_45 (dk_at dksL_law_18 10 rfl rfl)
theorem dL_law_602 : decode cL_law 602 = .ok (.iconst 0, 1) := dk_3 (dk_at dksL_law_18 11 rfl rfl)
theorem dL_law_603 : decode cL_law 603 = .ok (.laload, 1) := dk_47 (dk_at dksL_law_18 12 rfl rfl)
theorem dL_law_604 : decode cL_law 604 = .ok (.iload 6, 2) := dk_21 6 (dk_at dksL_law_18 13 rfl rfl)
theorem dL_law_606 : decode cL_law 606 = .ok (.i2l, 1) := dk_133 (dk_at dksL_law_18 15 rfl rfl)
theorem dL_law_607 : decode cL_law 607 = .ok (.lcmp, 1) := dk_148 (dk_at dksL_law_18 16 rfl rfl)
theorem dL_law_608 : decode cL_law 608 = .ok (.ifCond .eq 5, 3) := dk_153 0 5 (dk_at dksL_law_18 17 rfl rfl)
theorem dL_law_611 : decode cL_law 611 = .ok (.iconst 0, 1) := dk_3 (dk_at dksL_law_18 20 rfl rfl)
theorem dL_law_612 : decode cL_law 612 = .ok (.ireturn, 1) := dk_172 (dk_at dksL_law_18 21 rfl rfl)
theorem dL_law_613 : decode cL_law 613 = .ok (.goto 2832, 3) := dk_167 11 16 (dk_at dksL_law_19 0 rfl rfl)
theorem dL_law_616 : decode cL_law 616 = .ok (.aload_n 1, 1) := dk_43 (dk_at dksL_law_19 3 rfl rfl)
theorem dL_law_617 : decode cL_law 617 = .ok (.aload_n 0, 1) := dk_42 (dk_at dksL_law_19 4 rfl rfl)
theorem dL_law_618 : decode cL_law 618 = .ok (.iload 4, 2) := dk_21 4 (dk_at dksL_law_19 5 rfl rfl)
theorem dL_law_620 : decode cL_law 620 = .ok (.iconst 1, 1) := dk_4 (dk_at dksL_law_19 7 rfl rfl)
theorem dL_law_621 : decode cL_law 621 = .ok (.iadd, 1) := dk_96 (dk_at dksL_law_19 8 rfl rfl)
theorem dL_law_622 : decode cL_law 622 = .ok (.iaload, 1) := dk_46 (dk_at dksL_law_19 9 rfl rfl)
theorem dL_law_623 : decode cL_law 623 = .ok (.aload_n 0, 1) := dk_42 (dk_at dksL_law_19 10 rfl rfl)
theorem dL_law_624 : decode cL_law 624 = .ok (.iload 4, 2) := dk_21 4 (dk_at dksL_law_19 11 rfl rfl)
theorem dL_law_626 : decode cL_law 626 = .ok (.iconst 2, 1) := dk_5 (dk_at dksL_law_19 13 rfl rfl)
theorem dL_law_627 : decode cL_law 627 = .ok (.iadd, 1) := dk_96 (dk_at dksL_law_19 14 rfl rfl)
theorem dL_law_628 : decode cL_law 628 = .ok (.iaload, 1) := dk_46 (dk_at dksL_law_19 15 rfl rfl)
theorem dL_law_629 : decode cL_law 629 = .ok (.aload_n 3, 1) := dk_45 (dk_at dksL_law_19 16 rfl rfl)
theorem dL_law_630 : decode cL_law 630 = .ok (.invokestatic 179, 3) := dk_184 0 179 (dk_at dksL_law_19 17 rfl rfl)
theorem dL_law_633 : decode cL_law 633 = .ok (.istore 5, 2) := dk_54 5 (dk_at dksL_law_19 20 rfl rfl)
theorem dL_law_635 : decode cL_law 635 = .ok (.aload_n 2, 1) := dk_44 (dk_at dksL_law_19 22 rfl rfl)
theorem dL_law_636 : decode cL_law 636 = .ok (.aload_n 0, 1) := dk_42 (dk_at dksL_law_19 23 rfl rfl)
theorem dL_law_637 : decode cL_law 637 = .ok (.iload 4, 2) := dk_21 4 (dk_at dksL_law_20 0 rfl rfl)
theorem dL_law_639 : decode cL_law 639 = .ok (.iconst 1, 1) := dk_4 (dk_at dksL_law_20 2 rfl rfl)
theorem dL_law_640 : decode cL_law 640 = .ok (.iadd, 1) := dk_96 (dk_at dksL_law_20 3 rfl rfl)
theorem dL_law_641 : decode cL_law 641 = .ok (.iaload, 1) := dk_46 (dk_at dksL_law_20 4 rfl rfl)
theorem dL_law_642 : decode cL_law 642 = .ok (.aload_n 0, 1) := dk_42 (dk_at dksL_law_20 5 rfl rfl)
theorem dL_law_643 : decode cL_law 643 = .ok (.iload 4, 2) := dk_21 4 (dk_at dksL_law_20 6 rfl rfl)
theorem dL_law_645 : decode cL_law 645 = .ok (.iconst 2, 1) := dk_5 (dk_at dksL_law_20 8 rfl rfl)
theorem dL_law_646 : decode cL_law 646 = .ok (.iadd, 1) := dk_96 (dk_at dksL_law_20 9 rfl rfl)
theorem dL_law_647 : decode cL_law 647 = .ok (.iaload, 1) := dk_46 (dk_at dksL_law_20 10 rfl rfl)
theorem dL_law_648 : decode cL_law 648 = .ok (.invokevirtual 181, 3) := dk_182 0 181 (dk_at dksL_law_20 11 rfl rfl)
theorem dL_law_651 : decode cL_law 651 = .ok (.istore 6, 2) := dk_54 6 (dk_at dksL_law_20 14 rfl rfl)
theorem dL_law_653 : decode cL_law 653 = .ok (.aload_n 2, 1) := dk_44 (dk_at dksL_law_20 16 rfl rfl)
theorem dL_law_654 : decode cL_law 654 = .ok (.invokevirtual 161, 3) := dk_182 0 161 (dk_at dksL_law_20 17 rfl rfl)
theorem dL_law_657 : decode cL_law 657 = .ok (.iload 5, 2) := dk_21 5 (dk_at dksL_law_20 20 rfl rfl)
theorem dL_law_659 : decode cL_law 659 = .ok (.if_icmp .eq 5, 3) := dk_159 0 5 (dk_at dksL_law_21 0 rfl rfl)
theorem dL_law_662 : decode cL_law 662 = .ok (.iconst 0, 1) := dk_3 (dk_at dksL_law_21 3 rfl rfl)
theorem dL_law_663 : decode cL_law 663 = .ok (.ireturn, 1) := dk_172 (dk_at dksL_law_21 4 rfl rfl)
theorem dL_law_664 : decode cL_law 664 = .ok (.iload 5, 2) := dk_21 5 (dk_at dksL_law_21 5 rfl rfl)
theorem dL_law_666 : decode cL_law 666 = .ok (.ifCond .ne 15, 3) := dk_154 0 15 (dk_at dksL_law_21 7 rfl rfl)
theorem dL_law_669 : decode cL_law 669 = .ok (.aload_n 3, 1) := dk_45 (dk_at dksL_law_21 10 rfl rfl)
theorem dL_law_670 : decode cL_law 670 = .ok (.iconst 0, 1) := dk_3 (dk_at dksL_law_21 11 rfl rfl)
theorem dL_law_671 : decode cL_law 671 = .ok (.laload, 1) := dk_47 (dk_at dksL_law_21 12 rfl rfl)
theorem dL_law_672 : decode cL_law 672 = .ok (.iload 6, 2) := dk_21 6 (dk_at dksL_law_21 13 rfl rfl)
theorem dL_law_674 : decode cL_law 674 = .ok (.i2l, 1) := dk_133 (dk_at dksL_law_21 15 rfl rfl)
theorem dL_law_675 : decode cL_law 675 = .ok (.lcmp, 1) := dk_148 (dk_at dksL_law_21 16 rfl rfl)
theorem dL_law_676 : decode cL_law 676 = .ok (.ifCond .eq 5, 3) := dk_153 0 5 (dk_at dksL_law_21 17 rfl rfl)
theorem dL_law_679 : decode cL_law 679 = .ok (.iconst 0, 1) := dk_3 (dk_at dksL_law_21 20 rfl rfl)
theorem dL_law_680 : decode cL_law 680 = .ok (.ireturn, 1) := dk_172 (dk_at dksL_law_21 21 rfl rfl)
theorem dL_law_681 : decode cL_law 681 = .ok (.goto 2764, 3) := dk_167 10 204 (dk_at dksL_law_22 0 rfl rfl)
theorem dL_law_684 : decode cL_law 684 = .ok (.aload_n 1, 1) := dk_43 (dk_at dksL_law_22 3 rfl rfl)
theorem dL_law_685 : decode cL_law 685 = .ok (.aload_n 0, 1) := dk_42 (dk_at dksL_law_22 4 rfl rfl)
theorem dL_law_686 : decode cL_law 686 = .ok (.iload 4, 2) := dk_21 4 (dk_at dksL_law_22 5 rfl rfl)
theorem dL_law_688 : decode cL_law 688 = .ok (.iconst 1, 1) := dk_4 (dk_at dksL_law_22 7 rfl rfl)
theorem dL_law_689 : decode cL_law 689 = .ok (.iadd, 1) := dk_96 (dk_at dksL_law_22 8 rfl rfl)
theorem dL_law_690 : decode cL_law 690 = .ok (.iaload, 1) := dk_46 (dk_at dksL_law_22 9 rfl rfl)
theorem dL_law_691 : decode cL_law 691 = .ok (.aload_n 3, 1) := dk_45 (dk_at dksL_law_22 10 rfl rfl)
theorem dL_law_692 : decode cL_law 692 = .ok (.invokestatic 182, 3) := dk_184 0 182 (dk_at dksL_law_22 11 rfl rfl)
theorem dL_law_695 : decode cL_law 695 = .ok (.istore 5, 2) := dk_54 5 (dk_at dksL_law_22 14 rfl rfl)
theorem dL_law_697 : decode cL_law 697 = .ok (.aload_n 2, 1) := dk_44 (dk_at dksL_law_22 16 rfl rfl)
theorem dL_law_698 : decode cL_law 698 = .ok (.aload_n 0, 1) := dk_42 (dk_at dksL_law_22 17 rfl rfl)
theorem dL_law_699 : decode cL_law 699 = .ok (.iload 4, 2) := dk_21 4 (dk_at dksL_law_22 18 rfl rfl)
theorem dL_law_701 : decode cL_law 701 = .ok (.iconst 1, 1) := dk_4 (dk_at dksL_law_22 20 rfl rfl)
theorem dL_law_702 : decode cL_law 702 = .ok (.iadd, 1) := dk_96 (dk_at dksL_law_22 21 rfl rfl)
theorem dL_law_703 : decode cL_law 703 = .ok (.iaload, 1) := dk_46 (dk_at dksL_law_22 22 rfl rfl)
theorem dL_law_704 : decode cL_law 704 = .ok (.invokevirtual 184, 3) := dk_182 0 184 (dk_at dksL_law_23 0 rfl rfl)
theorem dL_law_707 : decode cL_law 707 = .ok (.istore 6, 2) := dk_54 6 (dk_at dksL_law_23 3 rfl rfl)
theorem dL_law_709 : decode cL_law 709 = .ok (.aload_n 2, 1) := dk_44 (dk_at dksL_law_23 5 rfl rfl)
theorem dL_law_710 : decode cL_law 710 = .ok (.invokevirtual 161, 3) := dk_182 0 161 (dk_at dksL_law_23 6 rfl rfl)
theorem dL_law_713 : decode cL_law 713 = .ok (.iload 5, 2) := dk_21 5 (dk_at dksL_law_23 9 rfl rfl)
theorem dL_law_715 : decode cL_law 715 = .ok (.if_icmp .eq 5, 3) := dk_159 0 5 (dk_at dksL_law_23 11 rfl rfl)
theorem dL_law_718 : decode cL_law 718 = .ok (.iconst 0, 1) := dk_3 (dk_at dksL_law_23 14 rfl rfl)
theorem dL_law_719 : decode cL_law 719 = .ok (.ireturn, 1) := dk_172 (dk_at dksL_law_23 15 rfl rfl)
theorem dL_law_720 : decode cL_law 720 = .ok (.iload 5, 2) := dk_21 5 (dk_at dksL_law_23 16 rfl rfl)
theorem dL_law_722 : decode cL_law 722 = .ok (.ifCond .ne 15, 3) := dk_154 0 15 (dk_at dksL_law_23 18 rfl rfl)
theorem dL_law_725 : decode cL_law 725 = .ok (.aload_n 3, 1) := dk_45 (dk_at dksL_law_23 21 rfl rfl)
theorem dL_law_726 : decode cL_law 726 = .ok (.iconst 0, 1) := dk_3 (dk_at dksL_law_23 22 rfl rfl)
theorem dL_law_727 : decode cL_law 727 = .ok (.laload, 1) := dk_47 (dk_at dksL_law_23 23 rfl rfl)
theorem dL_law_728 : decode cL_law 728 = .ok (.iload 6, 2) := dk_21 6 (dk_at dksL_law_24 0 rfl rfl)
theorem dL_law_730 : decode cL_law 730 = .ok (.i2l, 1) := dk_133 (dk_at dksL_law_24 2 rfl rfl)
theorem dL_law_731 : decode cL_law 731 = .ok (.lcmp, 1) := dk_148 (dk_at dksL_law_24 3 rfl rfl)
theorem dL_law_732 : decode cL_law 732 = .ok (.ifCond .eq 5, 3) := dk_153 0 5 (dk_at dksL_law_24 4 rfl rfl)
theorem dL_law_735 : decode cL_law 735 = .ok (.iconst 0, 1) := dk_3 (dk_at dksL_law_24 7 rfl rfl)
theorem dL_law_736 : decode cL_law 736 = .ok (.ireturn, 1) := dk_172 (dk_at dksL_law_24 8 rfl rfl)
theorem dL_law_737 : decode cL_law 737 = .ok (.goto 2708, 3) := dk_167 10 148 (dk_at dksL_law_24 9 rfl rfl)
theorem dL_law_740 : decode cL_law 740 = .ok (.aload_n 1, 1) := dk_43 (dk_at dksL_law_24 12 rfl rfl)
theorem dL_law_741 : decode cL_law 741 = .ok (.aload_n 0, 1) := dk_42 (dk_at dksL_law_24 13 rfl rfl)
theorem dL_law_742 : decode cL_law 742 = .ok (.iload 4, 2) := dk_21 4 (dk_at dksL_law_24 14 rfl rfl)
theorem dL_law_744 : decode cL_law 744 = .ok (.iconst 1, 1) := dk_4 (dk_at dksL_law_24 16 rfl rfl)
theorem dL_law_745 : decode cL_law 745 = .ok (.iadd, 1) := dk_96 (dk_at dksL_law_24 17 rfl rfl)
theorem dL_law_746 : decode cL_law 746 = .ok (.iaload, 1) := dk_46 (dk_at dksL_law_24 18 rfl rfl)
theorem dL_law_747 : decode cL_law 747 = .ok (.aload_n 0, 1) := dk_42 (dk_at dksL_law_24 19 rfl rfl)
theorem dL_law_748 : decode cL_law 748 = .ok (.iload 4, 2) := dk_21 4 (dk_at dksL_law_24 20 rfl rfl)
theorem dL_law_750 : decode cL_law 750 = .ok (.iconst 2, 1) := dk_5 (dk_at dksL_law_24 22 rfl rfl)
theorem dL_law_751 : decode cL_law 751 = .ok (.iadd, 1) := dk_96 (dk_at dksL_law_24 23 rfl rfl)
theorem dL_law_752 : decode cL_law 752 = .ok (.iaload, 1) := dk_46 (dk_at dksL_law_25 0 rfl rfl)
theorem dL_law_753 : decode cL_law 753 = .ok (.aload_n 0, 1) := dk_42 (dk_at dksL_law_25 1 rfl rfl)
theorem dL_law_754 : decode cL_law 754 = .ok (.iload 4, 2) := dk_21 4 (dk_at dksL_law_25 2 rfl rfl)
theorem dL_law_756 : decode cL_law 756 = .ok (.iconst 3, 1) := dk_6 (dk_at dksL_law_25 4 rfl rfl)
theorem dL_law_757 : decode cL_law 757 = .ok (.iadd, 1) := dk_96 (dk_at dksL_law_25 5 rfl rfl)
theorem dL_law_758 : decode cL_law 758 = .ok (.iaload, 1) := dk_46 (dk_at dksL_law_25 6 rfl rfl)
theorem dL_law_759 : decode cL_law 759 = .ok (.aload_n 0, 1) := dk_42 (dk_at dksL_law_25 7 rfl rfl)
theorem dL_law_760 : decode cL_law 760 = .ok (.iload 4, 2) := dk_21 4 (dk_at dksL_law_25 8 rfl rfl)
theorem dL_law_762 : decode cL_law 762 = .ok (.iconst 4, 1) := dk_7 (dk_at dksL_law_25 10 rfl rfl)
theorem dL_law_763 : decode cL_law 763 = .ok (.iadd, 1) := dk_96 (dk_at dksL_law_25 11 rfl rfl)
theorem dL_law_764 : decode cL_law 764 = .ok (.iaload, 1) := dk_46 (dk_at dksL_law_25 12 rfl rfl)
theorem dL_law_765 : decode cL_law 765 = .ok (.aload_n 0, 1) := dk_42 (dk_at dksL_law_25 13 rfl rfl)
theorem dL_law_766 : decode cL_law 766 = .ok (.iload 4, 2) := dk_21 4 (dk_at dksL_law_25 14 rfl rfl)
theorem dL_law_768 : decode cL_law 768 = .ok (.iconst 5, 1) := dk_8 (dk_at dksL_law_25 16 rfl rfl)
theorem dL_law_769 : decode cL_law 769 = .ok (.iadd, 1) := dk_96 (dk_at dksL_law_25 17 rfl rfl)
theorem dL_law_770 : decode cL_law 770 = .ok (.iaload, 1) := dk_46 (dk_at dksL_law_25 18 rfl rfl)
theorem dL_law_771 : decode cL_law 771 = .ok (.invokevirtual 185, 3) := dk_182 0 185 (dk_at dksL_law_25 19 rfl rfl)
theorem dL_law_774 : decode cL_law 774 = .ok (.aload_n 2, 1) := dk_44 (dk_at dksL_law_25 22 rfl rfl)
theorem dL_law_775 : decode cL_law 775 = .ok (.aload_n 0, 1) := dk_42 (dk_at dksL_law_25 23 rfl rfl)
theorem dL_law_776 : decode cL_law 776 = .ok (.iload 4, 2) := dk_21 4 (dk_at dksL_law_26 0 rfl rfl)
theorem dL_law_778 : decode cL_law 778 = .ok (.iconst 1, 1) := dk_4 (dk_at dksL_law_26 2 rfl rfl)
theorem dL_law_779 : decode cL_law 779 = .ok (.iadd, 1) := dk_96 (dk_at dksL_law_26 3 rfl rfl)
theorem dL_law_780 : decode cL_law 780 = .ok (.iaload, 1) := dk_46 (dk_at dksL_law_26 4 rfl rfl)
theorem dL_law_781 : decode cL_law 781 = .ok (.aload_n 0, 1) := dk_42 (dk_at dksL_law_26 5 rfl rfl)
theorem dL_law_782 : decode cL_law 782 = .ok (.iload 4, 2) := dk_21 4 (dk_at dksL_law_26 6 rfl rfl)
theorem dL_law_784 : decode cL_law 784 = .ok (.iconst 2, 1) := dk_5 (dk_at dksL_law_26 8 rfl rfl)
theorem dL_law_785 : decode cL_law 785 = .ok (.iadd, 1) := dk_96 (dk_at dksL_law_26 9 rfl rfl)
theorem dL_law_786 : decode cL_law 786 = .ok (.iaload, 1) := dk_46 (dk_at dksL_law_26 10 rfl rfl)
theorem dL_law_787 : decode cL_law 787 = .ok (.aload_n 0, 1) := dk_42 (dk_at dksL_law_26 11 rfl rfl)
theorem dL_law_788 : decode cL_law 788 = .ok (.iload 4, 2) := dk_21 4 (dk_at dksL_law_26 12 rfl rfl)
theorem dL_law_790 : decode cL_law 790 = .ok (.iconst 3, 1) := dk_6 (dk_at dksL_law_26 14 rfl rfl)
theorem dL_law_791 : decode cL_law 791 = .ok (.iadd, 1) := dk_96 (dk_at dksL_law_26 15 rfl rfl)
theorem dL_law_792 : decode cL_law 792 = .ok (.iaload, 1) := dk_46 (dk_at dksL_law_26 16 rfl rfl)
theorem dL_law_793 : decode cL_law 793 = .ok (.aload_n 0, 1) := dk_42 (dk_at dksL_law_26 17 rfl rfl)
theorem dL_law_794 : decode cL_law 794 = .ok (.iload 4, 2) := dk_21 4 (dk_at dksL_law_26 18 rfl rfl)
theorem dL_law_796 : decode cL_law 796 = .ok (.iconst 4, 1) := dk_7 (dk_at dksL_law_26 20 rfl rfl)
theorem dL_law_797 : decode cL_law 797 = .ok (.iadd, 1) := dk_96 (dk_at dksL_law_26 21 rfl rfl)
theorem dL_law_798 : decode cL_law 798 = .ok (.iaload, 1) := dk_46 (dk_at dksL_law_26 22 rfl rfl)
theorem dL_law_799 : decode cL_law 799 = .ok (.aload_n 0, 1) := dk_42 (dk_at dksL_law_26 23 rfl rfl)
theorem dL_law_800 : decode cL_law 800 = .ok (.iload 4, 2) := dk_21 4 (dk_at dksL_law_27 0 rfl rfl)
theorem dL_law_802 : decode cL_law 802 = .ok (.iconst 5, 1) := dk_8 (dk_at dksL_law_27 2 rfl rfl)
theorem dL_law_803 : decode cL_law 803 = .ok (.iadd, 1) := dk_96 (dk_at dksL_law_27 3 rfl rfl)
theorem dL_law_804 : decode cL_law 804 = .ok (.iaload, 1) := dk_46 (dk_at dksL_law_27 4 rfl rfl)
theorem dL_law_805 : decode cL_law 805 = .ok (.invokevirtual 189, 3) := dk_182 0 189 (dk_at dksL_law_27 5 rfl rfl)
theorem dL_law_808 : decode cL_law 808 = .ok (.if_icmp .eq 2637, 3) := dk_159 10 77 (dk_at dksL_law_27 8 rfl rfl)
theorem dL_law_811 : decode cL_law 811 = .ok (.iconst 0, 1) := dk_3 (dk_at dksL_law_27 11 rfl rfl)
theorem dL_law_812 : decode cL_law 812 = .ok (.ireturn, 1) := dk_172 (dk_at dksL_law_27 12 rfl rfl)
theorem dL_law_813 : decode cL_law 813 = .ok (.aload_n 1, 1) := dk_43 (dk_at dksL_law_27 13 rfl rfl)
theorem dL_law_814 : decode cL_law 814 = .ok (.aload_n 0, 1) := dk_42 (dk_at dksL_law_27 14 rfl rfl)
theorem dL_law_815 : decode cL_law 815 = .ok (.iload 4, 2) := dk_21 4 (dk_at dksL_law_27 15 rfl rfl)
theorem dL_law_817 : decode cL_law 817 = .ok (.iconst 1, 1) := dk_4 (dk_at dksL_law_27 17 rfl rfl)
theorem dL_law_818 : decode cL_law 818 = .ok (.iadd, 1) := dk_96 (dk_at dksL_law_27 18 rfl rfl)
theorem dL_law_819 : decode cL_law 819 = .ok (.iaload, 1) := dk_46 (dk_at dksL_law_27 19 rfl rfl)
theorem dL_law_820 : decode cL_law 820 = .ok (.aload_n 3, 1) := dk_45 (dk_at dksL_law_27 20 rfl rfl)
theorem dL_law_821 : decode cL_law 821 = .ok (.invokestatic 190, 3) := dk_184 0 190 (dk_at dksL_law_27 21 rfl rfl)
theorem dL_law_824 : decode cL_law 824 = .ok (.istore 5, 2) := dk_54 5 (dk_at dksL_law_28 0 rfl rfl)
theorem dL_law_826 : decode cL_law 826 = .ok (.aload_n 2, 1) := dk_44 (dk_at dksL_law_28 2 rfl rfl)
theorem dL_law_827 : decode cL_law 827 = .ok (.aload_n 0, 1) := dk_42 (dk_at dksL_law_28 3 rfl rfl)
theorem dL_law_828 : decode cL_law 828 = .ok (.iload 4, 2) := dk_21 4 (dk_at dksL_law_28 4 rfl rfl)
theorem dL_law_830 : decode cL_law 830 = .ok (.iconst 1, 1) := dk_4 (dk_at dksL_law_28 6 rfl rfl)
theorem dL_law_831 : decode cL_law 831 = .ok (.iadd, 1) := dk_96 (dk_at dksL_law_28 7 rfl rfl)
theorem dL_law_832 : decode cL_law 832 = .ok (.iaload, 1) := dk_46 (dk_at dksL_law_28 8 rfl rfl)
theorem dL_law_833 : decode cL_law 833 = .ok (.invokevirtual 192, 3) := dk_182 0 192 (dk_at dksL_law_28 9 rfl rfl)
theorem dL_law_836 : decode cL_law 836 = .ok (.istore 6, 2) := dk_54 6 (dk_at dksL_law_28 12 rfl rfl)
theorem dL_law_838 : decode cL_law 838 = .ok (.aload_n 2, 1) := dk_44 (dk_at dksL_law_28 14 rfl rfl)
theorem dL_law_839 : decode cL_law 839 = .ok (.invokevirtual 161, 3) := dk_182 0 161 (dk_at dksL_law_28 15 rfl rfl)
theorem dL_law_842 : decode cL_law 842 = .ok (.iload 5, 2) := dk_21 5 (dk_at dksL_law_28 18 rfl rfl)
theorem dL_law_844 : decode cL_law 844 = .ok (.if_icmp .eq 5, 3) := dk_159 0 5 (dk_at dksL_law_28 20 rfl rfl)
theorem dL_law_847 : decode cL_law 847 = .ok (.iconst 0, 1) := dk_3 (dk_at dksL_law_28 23 rfl rfl)
theorem dL_law_848 : decode cL_law 848 = .ok (.ireturn, 1) := dk_172 (dk_at dksL_law_29 0 rfl rfl)
theorem dL_law_849 : decode cL_law 849 = .ok (.iload 5, 2) := dk_21 5 (dk_at dksL_law_29 1 rfl rfl)
theorem dL_law_851 : decode cL_law 851 = .ok (.ifCond .ne 15, 3) := dk_154 0 15 (dk_at dksL_law_29 3 rfl rfl)
theorem dL_law_854 : decode cL_law 854 = .ok (.aload_n 3, 1) := dk_45 (dk_at dksL_law_29 6 rfl rfl)
theorem dL_law_855 : decode cL_law 855 = .ok (.iconst 0, 1) := dk_3 (dk_at dksL_law_29 7 rfl rfl)
theorem dL_law_856 : decode cL_law 856 = .ok (.laload, 1) := dk_47 (dk_at dksL_law_29 8 rfl rfl)
theorem dL_law_857 : decode cL_law 857 = .ok (.iload 6, 2) := dk_21 6 (dk_at dksL_law_29 9 rfl rfl)
theorem dL_law_859 : decode cL_law 859 = .ok (.i2l, 1) := dk_133 (dk_at dksL_law_29 11 rfl rfl)
theorem dL_law_860 : decode cL_law 860 = .ok (.lcmp, 1) := dk_148 (dk_at dksL_law_29 12 rfl rfl)
theorem dL_law_861 : decode cL_law 861 = .ok (.ifCond .eq 5, 3) := dk_153 0 5 (dk_at dksL_law_29 13 rfl rfl)
theorem dL_law_864 : decode cL_law 864 = .ok (.iconst 0, 1) := dk_3 (dk_at dksL_law_29 16 rfl rfl)
theorem dL_law_865 : decode cL_law 865 = .ok (.ireturn, 1) := dk_172 (dk_at dksL_law_29 17 rfl rfl)
theorem dL_law_866 : decode cL_law 866 = .ok (.goto 2579, 3) := dk_167 10 19 (dk_at dksL_law_29 18 rfl rfl)
theorem dL_law_869 : decode cL_law 869 = .ok (.aload_n 1, 1) := dk_43 (dk_at dksL_law_29 21 rfl rfl)
theorem dL_law_870 : decode cL_law 870 = .ok (.aload_n 0, 1) := dk_42 (dk_at dksL_law_29 22 rfl rfl)
theorem dL_law_871 : decode cL_law 871 = .ok (.iload 4, 2) := dk_21 4 (dk_at dksL_law_30 0 rfl rfl)
theorem dL_law_873 : decode cL_law 873 = .ok (.iconst 1, 1) := dk_4 (dk_at dksL_law_30 2 rfl rfl)
theorem dL_law_874 : decode cL_law 874 = .ok (.iadd, 1) := dk_96 (dk_at dksL_law_30 3 rfl rfl)
theorem dL_law_875 : decode cL_law 875 = .ok (.iaload, 1) := dk_46 (dk_at dksL_law_30 4 rfl rfl)
theorem dL_law_876 : decode cL_law 876 = .ok (.aload_n 0, 1) := dk_42 (dk_at dksL_law_30 5 rfl rfl)
theorem dL_law_877 : decode cL_law 877 = .ok (.iload 4, 2) := dk_21 4 (dk_at dksL_law_30 6 rfl rfl)
theorem dL_law_879 : decode cL_law 879 = .ok (.iconst 2, 1) := dk_5 (dk_at dksL_law_30 8 rfl rfl)
theorem dL_law_880 : decode cL_law 880 = .ok (.iadd, 1) := dk_96 (dk_at dksL_law_30 9 rfl rfl)
theorem dL_law_881 : decode cL_law 881 = .ok (.iaload, 1) := dk_46 (dk_at dksL_law_30 10 rfl rfl)
theorem dL_law_882 : decode cL_law 882 = .ok (.aload_n 3, 1) := dk_45 (dk_at dksL_law_30 11 rfl rfl)
theorem dL_law_883 : decode cL_law 883 = .ok (.invokestatic 193, 3) := dk_184 0 193 (dk_at dksL_law_30 12 rfl rfl)
theorem dL_law_886 : decode cL_law 886 = .ok (.istore 5, 2) := dk_54 5 (dk_at dksL_law_30 15 rfl rfl)
theorem dL_law_888 : decode cL_law 888 = .ok (.aload_n 2, 1) := dk_44 (dk_at dksL_law_30 17 rfl rfl)
theorem dL_law_889 : decode cL_law 889 = .ok (.aload_n 0, 1) := dk_42 (dk_at dksL_law_30 18 rfl rfl)
theorem dL_law_890 : decode cL_law 890 = .ok (.iload 4, 2) := dk_21 4 (dk_at dksL_law_30 19 rfl rfl)
theorem dL_law_892 : decode cL_law 892 = .ok (.iconst 1, 1) := dk_4 (dk_at dksL_law_30 21 rfl rfl)
theorem dL_law_893 : decode cL_law 893 = .ok (.iadd, 1) := dk_96 (dk_at dksL_law_30 22 rfl rfl)
theorem dL_law_894 : decode cL_law 894 = .ok (.iaload, 1) := dk_46 (dk_at dksL_law_30 23 rfl rfl)
theorem dL_law_895 : decode cL_law 895 = .ok (.aload_n 0, 1) := dk_42 (dk_at dksL_law_31 0 rfl rfl)
theorem dL_law_896 : decode cL_law 896 = .ok (.iload 4, 2) := dk_21 4 (dk_at dksL_law_31 1 rfl rfl)
theorem dL_law_898 : decode cL_law 898 = .ok (.iconst 2, 1) := dk_5 (dk_at dksL_law_31 3 rfl rfl)
theorem dL_law_899 : decode cL_law 899 = .ok (.iadd, 1) := dk_96 (dk_at dksL_law_31 4 rfl rfl)
theorem dL_law_900 : decode cL_law 900 = .ok (.iaload, 1) := dk_46 (dk_at dksL_law_31 5 rfl rfl)
theorem dL_law_901 : decode cL_law 901 = .ok (.invokevirtual 195, 3) := dk_182 0 195 (dk_at dksL_law_31 6 rfl rfl)
theorem dL_law_904 : decode cL_law 904 = .ok (.istore 6, 2) := dk_54 6 (dk_at dksL_law_31 9 rfl rfl)
theorem dL_law_906 : decode cL_law 906 = .ok (.aload_n 2, 1) := dk_44 (dk_at dksL_law_31 11 rfl rfl)
theorem dL_law_907 : decode cL_law 907 = .ok (.invokevirtual 161, 3) := dk_182 0 161 (dk_at dksL_law_31 12 rfl rfl)
theorem dL_law_910 : decode cL_law 910 = .ok (.iload 5, 2) := dk_21 5 (dk_at dksL_law_31 15 rfl rfl)
theorem dL_law_912 : decode cL_law 912 = .ok (.if_icmp .eq 5, 3) := dk_159 0 5 (dk_at dksL_law_31 17 rfl rfl)
theorem dL_law_915 : decode cL_law 915 = .ok (.iconst 0, 1) := dk_3 (dk_at dksL_law_31 20 rfl rfl)
theorem dL_law_916 : decode cL_law 916 = .ok (.ireturn, 1) := dk_172 (dk_at dksL_law_31 21 rfl rfl)
theorem dL_law_917 : decode cL_law 917 = .ok (.iload 5, 2) := dk_21 5 (dk_at dksL_law_31 22 rfl rfl)
theorem dL_law_919 : decode cL_law 919 = .ok (.ifCond .ne 15, 3) := dk_154 0 15 (dk_at dksL_law_32 0 rfl rfl)
theorem dL_law_922 : decode cL_law 922 = .ok (.aload_n 3, 1) := dk_45 (dk_at dksL_law_32 3 rfl rfl)
theorem dL_law_923 : decode cL_law 923 = .ok (.iconst 0, 1) := dk_3 (dk_at dksL_law_32 4 rfl rfl)
theorem dL_law_924 : decode cL_law 924 = .ok (.laload, 1) := dk_47 (dk_at dksL_law_32 5 rfl rfl)
theorem dL_law_925 : decode cL_law 925 = .ok (.iload 6, 2) := dk_21 6 (dk_at dksL_law_32 6 rfl rfl)
theorem dL_law_927 : decode cL_law 927 = .ok (.i2l, 1) := dk_133 (dk_at dksL_law_32 8 rfl rfl)
theorem dL_law_928 : decode cL_law 928 = .ok (.lcmp, 1) := dk_148 (dk_at dksL_law_32 9 rfl rfl)
theorem dL_law_929 : decode cL_law 929 = .ok (.ifCond .eq 5, 3) := dk_153 0 5 (dk_at dksL_law_32 10 rfl rfl)
theorem dL_law_932 : decode cL_law 932 = .ok (.iconst 0, 1) := dk_3 (dk_at dksL_law_32 13 rfl rfl)
theorem dL_law_933 : decode cL_law 933 = .ok (.ireturn, 1) := dk_172 (dk_at dksL_law_32 14 rfl rfl)
theorem dL_law_934 : decode cL_law 934 = .ok (.goto 2511, 3) := dk_167 9 207 (dk_at dksL_law_32 15 rfl rfl)
theorem dL_law_937 : decode cL_law 937 = .ok (.aload_n 1, 1) := dk_43 (dk_at dksL_law_32 18 rfl rfl)
theorem dL_law_938 : decode cL_law 938 = .ok (.aload_n 0, 1) := dk_42 (dk_at dksL_law_32 19 rfl rfl)
theorem dL_law_939 : decode cL_law 939 = .ok (.iload 4, 2) := dk_21 4 (dk_at dksL_law_32 20 rfl rfl)
theorem dL_law_941 : decode cL_law 941 = .ok (.iconst 1, 1) := dk_4 (dk_at dksL_law_32 22 rfl rfl)
theorem dL_law_942 : decode cL_law 942 = .ok (.iadd, 1) := dk_96 (dk_at dksL_law_32 23 rfl rfl)
theorem dL_law_943 : decode cL_law 943 = .ok (.iaload, 1) := dk_46 (dk_at dksL_law_33 0 rfl rfl)
theorem dL_law_944 : decode cL_law 944 = .ok (.aload_n 0, 1) := dk_42 (dk_at dksL_law_33 1 rfl rfl)
theorem dL_law_945 : decode cL_law 945 = .ok (.iload 4, 2) := dk_21 4 (dk_at dksL_law_33 2 rfl rfl)
theorem dL_law_947 : decode cL_law 947 = .ok (.iconst 2, 1) := dk_5 (dk_at dksL_law_33 4 rfl rfl)
theorem dL_law_948 : decode cL_law 948 = .ok (.iadd, 1) := dk_96 (dk_at dksL_law_33 5 rfl rfl)
theorem dL_law_949 : decode cL_law 949 = .ok (.iaload, 1) := dk_46 (dk_at dksL_law_33 6 rfl rfl)
theorem dL_law_950 : decode cL_law 950 = .ok (.aload_n 0, 1) := dk_42 (dk_at dksL_law_33 7 rfl rfl)
theorem dL_law_951 : decode cL_law 951 = .ok (.iload 4, 2) := dk_21 4 (dk_at dksL_law_33 8 rfl rfl)
theorem dL_law_953 : decode cL_law 953 = .ok (.iconst 3, 1) := dk_6 (dk_at dksL_law_33 10 rfl rfl)
theorem dL_law_954 : decode cL_law 954 = .ok (.iadd, 1) := dk_96 (dk_at dksL_law_33 11 rfl rfl)
theorem dL_law_955 : decode cL_law 955 = .ok (.iaload, 1) := dk_46 (dk_at dksL_law_33 12 rfl rfl)
theorem dL_law_956 : decode cL_law 956 = .ok (.aload_n 3, 1) := dk_45 (dk_at dksL_law_33 13 rfl rfl)
theorem dL_law_957 : decode cL_law 957 = .ok (.invokestatic 196, 3) := dk_184 0 196 (dk_at dksL_law_33 14 rfl rfl)
theorem dL_law_960 : decode cL_law 960 = .ok (.istore 5, 2) := dk_54 5 (dk_at dksL_law_33 17 rfl rfl)
theorem dL_law_962 : decode cL_law 962 = .ok (.aload_n 2, 1) := dk_44 (dk_at dksL_law_33 19 rfl rfl)
theorem dL_law_963 : decode cL_law 963 = .ok (.aload_n 0, 1) := dk_42 (dk_at dksL_law_33 20 rfl rfl)
theorem dL_law_964 : decode cL_law 964 = .ok (.iload 4, 2) := dk_21 4 (dk_at dksL_law_33 21 rfl rfl)
theorem dL_law_966 : decode cL_law 966 = .ok (.iconst 1, 1) := dk_4 (dk_at dksL_law_33 23 rfl rfl)
theorem dL_law_967 : decode cL_law 967 = .ok (.iadd, 1) := dk_96 (dk_at dksL_law_34 0 rfl rfl)
theorem dL_law_968 : decode cL_law 968 = .ok (.iaload, 1) := dk_46 (dk_at dksL_law_34 1 rfl rfl)
theorem dL_law_969 : decode cL_law 969 = .ok (.aload_n 0, 1) := dk_42 (dk_at dksL_law_34 2 rfl rfl)
theorem dL_law_970 : decode cL_law 970 = .ok (.iload 4, 2) := dk_21 4 (dk_at dksL_law_34 3 rfl rfl)
theorem dL_law_972 : decode cL_law 972 = .ok (.iconst 2, 1) := dk_5 (dk_at dksL_law_34 5 rfl rfl)
theorem dL_law_973 : decode cL_law 973 = .ok (.iadd, 1) := dk_96 (dk_at dksL_law_34 6 rfl rfl)
theorem dL_law_974 : decode cL_law 974 = .ok (.iaload, 1) := dk_46 (dk_at dksL_law_34 7 rfl rfl)
theorem dL_law_975 : decode cL_law 975 = .ok (.aload_n 0, 1) := dk_42 (dk_at dksL_law_34 8 rfl rfl)
theorem dL_law_976 : decode cL_law 976 = .ok (.iload 4, 2) := dk_21 4 (dk_at dksL_law_34 9 rfl rfl)
theorem dL_law_978 : decode cL_law 978 = .ok (.iconst 3, 1) := dk_6 (dk_at dksL_law_34 11 rfl rfl)
theorem dL_law_979 : decode cL_law 979 = .ok (.iadd, 1) := dk_96 (dk_at dksL_law_34 12 rfl rfl)
theorem dL_law_980 : decode cL_law 980 = .ok (.iaload, 1) := dk_46 (dk_at dksL_law_34 13 rfl rfl)
theorem dL_law_981 : decode cL_law 981 = .ok (.invokevirtual 199, 3) := dk_182 0 199 (dk_at dksL_law_34 14 rfl rfl)
theorem dL_law_984 : decode cL_law 984 = .ok (.istore 6, 2) := dk_54 6 (dk_at dksL_law_34 17 rfl rfl)
theorem dL_law_986 : decode cL_law 986 = .ok (.aload_n 2, 1) := dk_44 (dk_at dksL_law_34 19 rfl rfl)
theorem dL_law_987 : decode cL_law 987 = .ok (.invokevirtual 161, 3) := dk_182 0 161 (dk_at dksL_law_34 20 rfl rfl)
theorem dL_law_990 : decode cL_law 990 = .ok (.iload 5, 2) := dk_21 5 (dk_at dksL_law_35 0 rfl rfl)
theorem dL_law_992 : decode cL_law 992 = .ok (.if_icmp .eq 5, 3) := dk_159 0 5 (dk_at dksL_law_35 2 rfl rfl)
theorem dL_law_995 : decode cL_law 995 = .ok (.iconst 0, 1) := dk_3 (dk_at dksL_law_35 5 rfl rfl)
theorem dL_law_996 : decode cL_law 996 = .ok (.ireturn, 1) := dk_172 (dk_at dksL_law_35 6 rfl rfl)
theorem dL_law_997 : decode cL_law 997 = .ok (.iload 5, 2) := dk_21 5 (dk_at dksL_law_35 7 rfl rfl)
theorem dL_law_999 : decode cL_law 999 = .ok (.ifCond .ne 15, 3) := dk_154 0 15 (dk_at dksL_law_35 9 rfl rfl)
theorem dL_law_1002 : decode cL_law 1002 = .ok (.aload_n 3, 1) := dk_45 (dk_at dksL_law_35 12 rfl rfl)
theorem dL_law_1003 : decode cL_law 1003 = .ok (.iconst 0, 1) := dk_3 (dk_at dksL_law_35 13 rfl rfl)
theorem dL_law_1004 : decode cL_law 1004 = .ok (.laload, 1) := dk_47 (dk_at dksL_law_35 14 rfl rfl)
theorem dL_law_1005 : decode cL_law 1005 = .ok (.iload 6, 2) := dk_21 6 (dk_at dksL_law_35 15 rfl rfl)
theorem dL_law_1007 : decode cL_law 1007 = .ok (.i2l, 1) := dk_133 (dk_at dksL_law_35 17 rfl rfl)
theorem dL_law_1008 : decode cL_law 1008 = .ok (.lcmp, 1) := dk_148 (dk_at dksL_law_35 18 rfl rfl)
theorem dL_law_1009 : decode cL_law 1009 = .ok (.ifCond .eq 5, 3) := dk_153 0 5 (dk_at dksL_law_35 19 rfl rfl)
theorem dL_law_1012 : decode cL_law 1012 = .ok (.iconst 0, 1) := dk_3 (dk_at dksL_law_35 22 rfl rfl)
theorem dL_law_1013 : decode cL_law 1013 = .ok (.ireturn, 1) := dk_172 (dk_at dksL_law_35 23 rfl rfl)
theorem dL_law_1014 : decode cL_law 1014 = .ok (.goto 2431, 3) := dk_167 9 127 (dk_at dksL_law_36 0 rfl rfl)
theorem dL_law_1017 : decode cL_law 1017 = .ok (.aload_n 1, 1) := dk_43 (dk_at dksL_law_36 3 rfl rfl)
theorem dL_law_1018 : decode cL_law 1018 = .ok (.aload_n 0, 1) := dk_42 (dk_at dksL_law_36 4 rfl rfl)
theorem dL_law_1019 : decode cL_law 1019 = .ok (.iload 4, 2) := dk_21 4 (dk_at dksL_law_36 5 rfl rfl)
theorem dL_law_1021 : decode cL_law 1021 = .ok (.iconst 1, 1) := dk_4 (dk_at dksL_law_36 7 rfl rfl)
theorem dL_law_1022 : decode cL_law 1022 = .ok (.iadd, 1) := dk_96 (dk_at dksL_law_36 8 rfl rfl)
theorem dL_law_1023 : decode cL_law 1023 = .ok (.iaload, 1) := dk_46 (dk_at dksL_law_36 9 rfl rfl)
theorem dL_law_1024 : decode cL_law 1024 = .ok (.aload_n 0, 1) := dk_42 (dk_at dksL_law_36 10 rfl rfl)
theorem dL_law_1025 : decode cL_law 1025 = .ok (.iload 4, 2) := dk_21 4 (dk_at dksL_law_36 11 rfl rfl)
theorem dL_law_1027 : decode cL_law 1027 = .ok (.iconst 2, 1) := dk_5 (dk_at dksL_law_36 13 rfl rfl)
theorem dL_law_1028 : decode cL_law 1028 = .ok (.iadd, 1) := dk_96 (dk_at dksL_law_36 14 rfl rfl)
theorem dL_law_1029 : decode cL_law 1029 = .ok (.iaload, 1) := dk_46 (dk_at dksL_law_36 15 rfl rfl)
theorem dL_law_1030 : decode cL_law 1030 = .ok (.aload_n 3, 1) := dk_45 (dk_at dksL_law_36 16 rfl rfl)
theorem dL_law_1031 : decode cL_law 1031 = .ok (.invokestatic 200, 3) := dk_184 0 200 (dk_at dksL_law_36 17 rfl rfl)
theorem dL_law_1034 : decode cL_law 1034 = .ok (.istore 5, 2) := dk_54 5 (dk_at dksL_law_36 20 rfl rfl)
theorem dL_law_1036 : decode cL_law 1036 = .ok (.aload_n 2, 1) := dk_44 (dk_at dksL_law_36 22 rfl rfl)
theorem dL_law_1037 : decode cL_law 1037 = .ok (.aload_n 0, 1) := dk_42 (dk_at dksL_law_36 23 rfl rfl)
theorem dL_law_1038 : decode cL_law 1038 = .ok (.iload 4, 2) := dk_21 4 (dk_at dksL_law_37 0 rfl rfl)
theorem dL_law_1040 : decode cL_law 1040 = .ok (.iconst 1, 1) := dk_4 (dk_at dksL_law_37 2 rfl rfl)
theorem dL_law_1041 : decode cL_law 1041 = .ok (.iadd, 1) := dk_96 (dk_at dksL_law_37 3 rfl rfl)
theorem dL_law_1042 : decode cL_law 1042 = .ok (.iaload, 1) := dk_46 (dk_at dksL_law_37 4 rfl rfl)
theorem dL_law_1043 : decode cL_law 1043 = .ok (.aload_n 0, 1) := dk_42 (dk_at dksL_law_37 5 rfl rfl)
theorem dL_law_1044 : decode cL_law 1044 = .ok (.iload 4, 2) := dk_21 4 (dk_at dksL_law_37 6 rfl rfl)
theorem dL_law_1046 : decode cL_law 1046 = .ok (.iconst 2, 1) := dk_5 (dk_at dksL_law_37 8 rfl rfl)
theorem dL_law_1047 : decode cL_law 1047 = .ok (.iadd, 1) := dk_96 (dk_at dksL_law_37 9 rfl rfl)
theorem dL_law_1048 : decode cL_law 1048 = .ok (.iaload, 1) := dk_46 (dk_at dksL_law_37 10 rfl rfl)
theorem dL_law_1049 : decode cL_law 1049 = .ok (.invokevirtual 202, 3) := dk_182 0 202 (dk_at dksL_law_37 11 rfl rfl)
theorem dL_law_1052 : decode cL_law 1052 = .ok (.istore 6, 2) := dk_54 6 (dk_at dksL_law_37 14 rfl rfl)
theorem dL_law_1054 : decode cL_law 1054 = .ok (.aload_n 2, 1) := dk_44 (dk_at dksL_law_37 16 rfl rfl)
theorem dL_law_1055 : decode cL_law 1055 = .ok (.invokevirtual 161, 3) := dk_182 0 161 (dk_at dksL_law_37 17 rfl rfl)
theorem dL_law_1058 : decode cL_law 1058 = .ok (.iload 5, 2) := dk_21 5 (dk_at dksL_law_37 20 rfl rfl)
theorem dL_law_1060 : decode cL_law 1060 = .ok (.if_icmp .eq 5, 3) := dk_159 0 5 (dk_at dksL_law_38 0 rfl rfl)
theorem dL_law_1063 : decode cL_law 1063 = .ok (.iconst 0, 1) := dk_3 (dk_at dksL_law_38 3 rfl rfl)
theorem dL_law_1064 : decode cL_law 1064 = .ok (.ireturn, 1) := dk_172 (dk_at dksL_law_38 4 rfl rfl)
theorem dL_law_1065 : decode cL_law 1065 = .ok (.iload 5, 2) := dk_21 5 (dk_at dksL_law_38 5 rfl rfl)
theorem dL_law_1067 : decode cL_law 1067 = .ok (.ifCond .ne 15, 3) := dk_154 0 15 (dk_at dksL_law_38 7 rfl rfl)
theorem dL_law_1070 : decode cL_law 1070 = .ok (.aload_n 3, 1) := dk_45 (dk_at dksL_law_38 10 rfl rfl)
theorem dL_law_1071 : decode cL_law 1071 = .ok (.iconst 0, 1) := dk_3 (dk_at dksL_law_38 11 rfl rfl)
theorem dL_law_1072 : decode cL_law 1072 = .ok (.laload, 1) := dk_47 (dk_at dksL_law_38 12 rfl rfl)
theorem dL_law_1073 : decode cL_law 1073 = .ok (.iload 6, 2) := dk_21 6 (dk_at dksL_law_38 13 rfl rfl)
theorem dL_law_1075 : decode cL_law 1075 = .ok (.i2l, 1) := dk_133 (dk_at dksL_law_38 15 rfl rfl)
theorem dL_law_1076 : decode cL_law 1076 = .ok (.lcmp, 1) := dk_148 (dk_at dksL_law_38 16 rfl rfl)
theorem dL_law_1077 : decode cL_law 1077 = .ok (.ifCond .eq 5, 3) := dk_153 0 5 (dk_at dksL_law_38 17 rfl rfl)
theorem dL_law_1080 : decode cL_law 1080 = .ok (.iconst 0, 1) := dk_3 (dk_at dksL_law_38 20 rfl rfl)
theorem dL_law_1081 : decode cL_law 1081 = .ok (.ireturn, 1) := dk_172 (dk_at dksL_law_38 21 rfl rfl)
theorem dL_law_1082 : decode cL_law 1082 = .ok (.goto 2363, 3) := dk_167 9 59 (dk_at dksL_law_39 0 rfl rfl)
theorem dL_law_1085 : decode cL_law 1085 = .ok (.aload_n 1, 1) := dk_43 (dk_at dksL_law_39 3 rfl rfl)
theorem dL_law_1086 : decode cL_law 1086 = .ok (.aload_n 0, 1) := dk_42 (dk_at dksL_law_39 4 rfl rfl)
theorem dL_law_1087 : decode cL_law 1087 = .ok (.iload 4, 2) := dk_21 4 (dk_at dksL_law_39 5 rfl rfl)
theorem dL_law_1089 : decode cL_law 1089 = .ok (.iconst 1, 1) := dk_4 (dk_at dksL_law_39 7 rfl rfl)
theorem dL_law_1090 : decode cL_law 1090 = .ok (.iadd, 1) := dk_96 (dk_at dksL_law_39 8 rfl rfl)
theorem dL_law_1091 : decode cL_law 1091 = .ok (.iaload, 1) := dk_46 (dk_at dksL_law_39 9 rfl rfl)
theorem dL_law_1092 : decode cL_law 1092 = .ok (.aload_n 0, 1) := dk_42 (dk_at dksL_law_39 10 rfl rfl)
theorem dL_law_1093 : decode cL_law 1093 = .ok (.iload 4, 2) := dk_21 4 (dk_at dksL_law_39 11 rfl rfl)
theorem dL_law_1095 : decode cL_law 1095 = .ok (.iconst 2, 1) := dk_5 (dk_at dksL_law_39 13 rfl rfl)
theorem dL_law_1096 : decode cL_law 1096 = .ok (.iadd, 1) := dk_96 (dk_at dksL_law_39 14 rfl rfl)
theorem dL_law_1097 : decode cL_law 1097 = .ok (.iaload, 1) := dk_46 (dk_at dksL_law_39 15 rfl rfl)
theorem dL_law_1098 : decode cL_law 1098 = .ok (.aload_n 0, 1) := dk_42 (dk_at dksL_law_39 16 rfl rfl)
theorem dL_law_1099 : decode cL_law 1099 = .ok (.iload 4, 2) := dk_21 4 (dk_at dksL_law_39 17 rfl rfl)
theorem dL_law_1101 : decode cL_law 1101 = .ok (.iconst 3, 1) := dk_6 (dk_at dksL_law_39 19 rfl rfl)
theorem dL_law_1102 : decode cL_law 1102 = .ok (.iadd, 1) := dk_96 (dk_at dksL_law_39 20 rfl rfl)
theorem dL_law_1103 : decode cL_law 1103 = .ok (.iaload, 1) := dk_46 (dk_at dksL_law_39 21 rfl rfl)
theorem dL_law_1104 : decode cL_law 1104 = .ok (.aload_n 3, 1) := dk_45 (dk_at dksL_law_39 22 rfl rfl)
theorem dL_law_1105 : decode cL_law 1105 = .ok (.invokestatic 203, 3) := dk_184 0 203 (dk_at dksL_law_40 0 rfl rfl)
theorem dL_law_1108 : decode cL_law 1108 = .ok (.istore 5, 2) := dk_54 5 (dk_at dksL_law_40 3 rfl rfl)
theorem dL_law_1110 : decode cL_law 1110 = .ok (.aload_n 2, 1) := dk_44 (dk_at dksL_law_40 5 rfl rfl)
theorem dL_law_1111 : decode cL_law 1111 = .ok (.aload_n 0, 1) := dk_42 (dk_at dksL_law_40 6 rfl rfl)
theorem dL_law_1112 : decode cL_law 1112 = .ok (.iload 4, 2) := dk_21 4 (dk_at dksL_law_40 7 rfl rfl)
theorem dL_law_1114 : decode cL_law 1114 = .ok (.iconst 1, 1) := dk_4 (dk_at dksL_law_40 9 rfl rfl)
theorem dL_law_1115 : decode cL_law 1115 = .ok (.iadd, 1) := dk_96 (dk_at dksL_law_40 10 rfl rfl)
theorem dL_law_1116 : decode cL_law 1116 = .ok (.iaload, 1) := dk_46 (dk_at dksL_law_40 11 rfl rfl)
theorem dL_law_1117 : decode cL_law 1117 = .ok (.aload_n 0, 1) := dk_42 (dk_at dksL_law_40 12 rfl rfl)
theorem dL_law_1118 : decode cL_law 1118 = .ok (.iload 4, 2) := dk_21 4 (dk_at dksL_law_40 13 rfl rfl)
theorem dL_law_1120 : decode cL_law 1120 = .ok (.iconst 2, 1) := dk_5 (dk_at dksL_law_40 15 rfl rfl)
theorem dL_law_1121 : decode cL_law 1121 = .ok (.iadd, 1) := dk_96 (dk_at dksL_law_40 16 rfl rfl)
theorem dL_law_1122 : decode cL_law 1122 = .ok (.iaload, 1) := dk_46 (dk_at dksL_law_40 17 rfl rfl)
theorem dL_law_1123 : decode cL_law 1123 = .ok (.aload_n 0, 1) := dk_42 (dk_at dksL_law_40 18 rfl rfl)
theorem dL_law_1124 : decode cL_law 1124 = .ok (.iload 4, 2) := dk_21 4 (dk_at dksL_law_40 19 rfl rfl)
theorem dL_law_1126 : decode cL_law 1126 = .ok (.iconst 3, 1) := dk_6 (dk_at dksL_law_40 21 rfl rfl)
theorem dL_law_1127 : decode cL_law 1127 = .ok (.iadd, 1) := dk_96 (dk_at dksL_law_40 22 rfl rfl)
theorem dL_law_1128 : decode cL_law 1128 = .ok (.iaload, 1) := dk_46 (dk_at dksL_law_40 23 rfl rfl)
theorem dL_law_1129 : decode cL_law 1129 = .ok (.invokevirtual 205, 3) := dk_182 0 205 (dk_at dksL_law_41 0 rfl rfl)
theorem dL_law_1132 : decode cL_law 1132 = .ok (.istore 6, 2) := dk_54 6 (dk_at dksL_law_41 3 rfl rfl)
theorem dL_law_1134 : decode cL_law 1134 = .ok (.aload_n 2, 1) := dk_44 (dk_at dksL_law_41 5 rfl rfl)
theorem dL_law_1135 : decode cL_law 1135 = .ok (.invokevirtual 161, 3) := dk_182 0 161 (dk_at dksL_law_41 6 rfl rfl)
theorem dL_law_1138 : decode cL_law 1138 = .ok (.iload 5, 2) := dk_21 5 (dk_at dksL_law_41 9 rfl rfl)
theorem dL_law_1140 : decode cL_law 1140 = .ok (.if_icmp .eq 5, 3) := dk_159 0 5 (dk_at dksL_law_41 11 rfl rfl)
theorem dL_law_1143 : decode cL_law 1143 = .ok (.iconst 0, 1) := dk_3 (dk_at dksL_law_41 14 rfl rfl)
theorem dL_law_1144 : decode cL_law 1144 = .ok (.ireturn, 1) := dk_172 (dk_at dksL_law_41 15 rfl rfl)
theorem dL_law_1145 : decode cL_law 1145 = .ok (.iload 5, 2) := dk_21 5 (dk_at dksL_law_41 16 rfl rfl)
theorem dL_law_1147 : decode cL_law 1147 = .ok (.ifCond .ne 15, 3) := dk_154 0 15 (dk_at dksL_law_41 18 rfl rfl)
theorem dL_law_1150 : decode cL_law 1150 = .ok (.aload_n 3, 1) := dk_45 (dk_at dksL_law_41 21 rfl rfl)
theorem dL_law_1151 : decode cL_law 1151 = .ok (.iconst 0, 1) := dk_3 (dk_at dksL_law_41 22 rfl rfl)
theorem dL_law_1152 : decode cL_law 1152 = .ok (.laload, 1) := dk_47 (dk_at dksL_law_41 23 rfl rfl)
theorem dL_law_1153 : decode cL_law 1153 = .ok (.iload 6, 2) := dk_21 6 (dk_at dksL_law_42 0 rfl rfl)
theorem dL_law_1155 : decode cL_law 1155 = .ok (.i2l, 1) := dk_133 (dk_at dksL_law_42 2 rfl rfl)
theorem dL_law_1156 : decode cL_law 1156 = .ok (.lcmp, 1) := dk_148 (dk_at dksL_law_42 3 rfl rfl)
theorem dL_law_1157 : decode cL_law 1157 = .ok (.ifCond .eq 5, 3) := dk_153 0 5 (dk_at dksL_law_42 4 rfl rfl)
theorem dL_law_1160 : decode cL_law 1160 = .ok (.iconst 0, 1) := dk_3 (dk_at dksL_law_42 7 rfl rfl)
theorem dL_law_1161 : decode cL_law 1161 = .ok (.ireturn, 1) := dk_172 (dk_at dksL_law_42 8 rfl rfl)
theorem dL_law_1162 : decode cL_law 1162 = .ok (.goto 2283, 3) := dk_167 8 235 (dk_at dksL_law_42 9 rfl rfl)
theorem dL_law_1165 : decode cL_law 1165 = .ok (.aload_n 1, 1) := dk_43 (dk_at dksL_law_42 12 rfl rfl)
theorem dL_law_1166 : decode cL_law 1166 = .ok (.aload_n 0, 1) := dk_42 (dk_at dksL_law_42 13 rfl rfl)
theorem dL_law_1167 : decode cL_law 1167 = .ok (.iload 4, 2) := dk_21 4 (dk_at dksL_law_42 14 rfl rfl)
theorem dL_law_1169 : decode cL_law 1169 = .ok (.iconst 1, 1) := dk_4 (dk_at dksL_law_42 16 rfl rfl)
theorem dL_law_1170 : decode cL_law 1170 = .ok (.iadd, 1) := dk_96 (dk_at dksL_law_42 17 rfl rfl)
theorem dL_law_1171 : decode cL_law 1171 = .ok (.iaload, 1) := dk_46 (dk_at dksL_law_42 18 rfl rfl)
theorem dL_law_1172 : decode cL_law 1172 = .ok (.aload_n 0, 1) := dk_42 (dk_at dksL_law_42 19 rfl rfl)
theorem dL_law_1173 : decode cL_law 1173 = .ok (.iload 4, 2) := dk_21 4 (dk_at dksL_law_42 20 rfl rfl)
theorem dL_law_1175 : decode cL_law 1175 = .ok (.iconst 2, 1) := dk_5 (dk_at dksL_law_42 22 rfl rfl)
theorem dL_law_1176 : decode cL_law 1176 = .ok (.iadd, 1) := dk_96 (dk_at dksL_law_42 23 rfl rfl)
theorem dL_law_1177 : decode cL_law 1177 = .ok (.iaload, 1) := dk_46 (dk_at dksL_law_43 0 rfl rfl)
theorem dL_law_1178 : decode cL_law 1178 = .ok (.aload_n 3, 1) := dk_45 (dk_at dksL_law_43 1 rfl rfl)
theorem dL_law_1179 : decode cL_law 1179 = .ok (.invokestatic 206, 3) := dk_184 0 206 (dk_at dksL_law_43 2 rfl rfl)
theorem dL_law_1182 : decode cL_law 1182 = .ok (.istore 5, 2) := dk_54 5 (dk_at dksL_law_43 5 rfl rfl)
theorem dL_law_1184 : decode cL_law 1184 = .ok (.aload_n 2, 1) := dk_44 (dk_at dksL_law_43 7 rfl rfl)
theorem dL_law_1185 : decode cL_law 1185 = .ok (.aload_n 0, 1) := dk_42 (dk_at dksL_law_43 8 rfl rfl)
theorem dL_law_1186 : decode cL_law 1186 = .ok (.iload 4, 2) := dk_21 4 (dk_at dksL_law_43 9 rfl rfl)
theorem dL_law_1188 : decode cL_law 1188 = .ok (.iconst 1, 1) := dk_4 (dk_at dksL_law_43 11 rfl rfl)
theorem dL_law_1189 : decode cL_law 1189 = .ok (.iadd, 1) := dk_96 (dk_at dksL_law_43 12 rfl rfl)
theorem dL_law_1190 : decode cL_law 1190 = .ok (.iaload, 1) := dk_46 (dk_at dksL_law_43 13 rfl rfl)
theorem dL_law_1191 : decode cL_law 1191 = .ok (.aload_n 0, 1) := dk_42 (dk_at dksL_law_43 14 rfl rfl)
theorem dL_law_1192 : decode cL_law 1192 = .ok (.iload 4, 2) := dk_21 4 (dk_at dksL_law_43 15 rfl rfl)
theorem dL_law_1194 : decode cL_law 1194 = .ok (.iconst 2, 1) := dk_5 (dk_at dksL_law_43 17 rfl rfl)
theorem dL_law_1195 : decode cL_law 1195 = .ok (.iadd, 1) := dk_96 (dk_at dksL_law_43 18 rfl rfl)
theorem dL_law_1196 : decode cL_law 1196 = .ok (.iaload, 1) := dk_46 (dk_at dksL_law_43 19 rfl rfl)
theorem dL_law_1197 : decode cL_law 1197 = .ok (.invokevirtual 208, 3) := dk_182 0 208 (dk_at dksL_law_43 20 rfl rfl)
theorem dL_law_1200 : decode cL_law 1200 = .ok (.istore 6, 2) := dk_54 6 (dk_at dksL_law_44 0 rfl rfl)
theorem dL_law_1202 : decode cL_law 1202 = .ok (.aload_n 2, 1) := dk_44 (dk_at dksL_law_44 2 rfl rfl)
theorem dL_law_1203 : decode cL_law 1203 = .ok (.invokevirtual 161, 3) := dk_182 0 161 (dk_at dksL_law_44 3 rfl rfl)
theorem dL_law_1206 : decode cL_law 1206 = .ok (.iload 5, 2) := dk_21 5 (dk_at dksL_law_44 6 rfl rfl)
theorem dL_law_1208 : decode cL_law 1208 = .ok (.if_icmp .eq 5, 3) := dk_159 0 5 (dk_at dksL_law_44 8 rfl rfl)
theorem dL_law_1211 : decode cL_law 1211 = .ok (.iconst 0, 1) := dk_3 (dk_at dksL_law_44 11 rfl rfl)
theorem dL_law_1212 : decode cL_law 1212 = .ok (.ireturn, 1) := dk_172 (dk_at dksL_law_44 12 rfl rfl)
theorem dL_law_1213 : decode cL_law 1213 = .ok (.iload 5, 2) := dk_21 5 (dk_at dksL_law_44 13 rfl rfl)
theorem dL_law_1215 : decode cL_law 1215 = .ok (.ifCond .ne 15, 3) := dk_154 0 15 (dk_at dksL_law_44 15 rfl rfl)
theorem dL_law_1218 : decode cL_law 1218 = .ok (.aload_n 3, 1) := dk_45 (dk_at dksL_law_44 18 rfl rfl)
theorem dL_law_1219 : decode cL_law 1219 = .ok (.iconst 0, 1) := dk_3 (dk_at dksL_law_44 19 rfl rfl)
theorem dL_law_1220 : decode cL_law 1220 = .ok (.laload, 1) := dk_47 (dk_at dksL_law_44 20 rfl rfl)
theorem dL_law_1221 : decode cL_law 1221 = .ok (.iload 6, 2) := dk_21 6 (dk_at dksL_law_44 21 rfl rfl)
theorem dL_law_1223 : decode cL_law 1223 = .ok (.i2l, 1) := dk_133 (dk_at dksL_law_44 23 rfl rfl)
theorem dL_law_1224 : decode cL_law 1224 = .ok (.lcmp, 1) := dk_148 (dk_at dksL_law_45 0 rfl rfl)
theorem dL_law_1225 : decode cL_law 1225 = .ok (.ifCond .eq 5, 3) := dk_153 0 5 (dk_at dksL_law_45 1 rfl rfl)
theorem dL_law_1228 : decode cL_law 1228 = .ok (.iconst 0, 1) := dk_3 (dk_at dksL_law_45 4 rfl rfl)
theorem dL_law_1229 : decode cL_law 1229 = .ok (.ireturn, 1) := dk_172 (dk_at dksL_law_45 5 rfl rfl)
theorem dL_law_1230 : decode cL_law 1230 = .ok (.goto 2215, 3) := dk_167 8 167 (dk_at dksL_law_45 6 rfl rfl)
theorem dL_law_1233 : decode cL_law 1233 = .ok (.aload_n 1, 1) := dk_43 (dk_at dksL_law_45 9 rfl rfl)
theorem dL_law_1234 : decode cL_law 1234 = .ok (.aload_n 0, 1) := dk_42 (dk_at dksL_law_45 10 rfl rfl)
theorem dL_law_1235 : decode cL_law 1235 = .ok (.iload 4, 2) := dk_21 4 (dk_at dksL_law_45 11 rfl rfl)
theorem dL_law_1237 : decode cL_law 1237 = .ok (.iconst 1, 1) := dk_4 (dk_at dksL_law_45 13 rfl rfl)
theorem dL_law_1238 : decode cL_law 1238 = .ok (.iadd, 1) := dk_96 (dk_at dksL_law_45 14 rfl rfl)
theorem dL_law_1239 : decode cL_law 1239 = .ok (.iaload, 1) := dk_46 (dk_at dksL_law_45 15 rfl rfl)
theorem dL_law_1240 : decode cL_law 1240 = .ok (.aload_n 0, 1) := dk_42 (dk_at dksL_law_45 16 rfl rfl)
theorem dL_law_1241 : decode cL_law 1241 = .ok (.iload 4, 2) := dk_21 4 (dk_at dksL_law_45 17 rfl rfl)
theorem dL_law_1243 : decode cL_law 1243 = .ok (.iconst 2, 1) := dk_5 (dk_at dksL_law_45 19 rfl rfl)
theorem dL_law_1244 : decode cL_law 1244 = .ok (.iadd, 1) := dk_96 (dk_at dksL_law_45 20 rfl rfl)
theorem dL_law_1245 : decode cL_law 1245 = .ok (.iaload, 1) := dk_46 (dk_at dksL_law_45 21 rfl rfl)
theorem dL_law_1246 : decode cL_law 1246 = .ok (.aload_n 0, 1) := dk_42 (dk_at dksL_law_45 22 rfl rfl)
theorem dL_law_1247 : decode cL_law 1247 = .ok (.iload 4, 2) := dk_21 4 (dk_at dksL_law_46 0 rfl rfl)
theorem dL_law_1249 : decode cL_law 1249 = .ok (.iconst 3, 1) := dk_6 (dk_at dksL_law_46 2 rfl rfl)
theorem dL_law_1250 : decode cL_law 1250 = .ok (.iadd, 1) := dk_96 (dk_at dksL_law_46 3 rfl rfl)
theorem dL_law_1251 : decode cL_law 1251 = .ok (.iaload, 1) := dk_46 (dk_at dksL_law_46 4 rfl rfl)
theorem dL_law_1252 : decode cL_law 1252 = .ok (.aload_n 3, 1) := dk_45 (dk_at dksL_law_46 5 rfl rfl)
theorem dL_law_1253 : decode cL_law 1253 = .ok (.invokestatic 209, 3) := dk_184 0 209 (dk_at dksL_law_46 6 rfl rfl)
theorem dL_law_1256 : decode cL_law 1256 = .ok (.istore 5, 2) := dk_54 5 (dk_at dksL_law_46 9 rfl rfl)
theorem dL_law_1258 : decode cL_law 1258 = .ok (.aload_n 2, 1) := dk_44 (dk_at dksL_law_46 11 rfl rfl)
theorem dL_law_1259 : decode cL_law 1259 = .ok (.aload_n 0, 1) := dk_42 (dk_at dksL_law_46 12 rfl rfl)
theorem dL_law_1260 : decode cL_law 1260 = .ok (.iload 4, 2) := dk_21 4 (dk_at dksL_law_46 13 rfl rfl)
theorem dL_law_1262 : decode cL_law 1262 = .ok (.iconst 1, 1) := dk_4 (dk_at dksL_law_46 15 rfl rfl)
theorem dL_law_1263 : decode cL_law 1263 = .ok (.iadd, 1) := dk_96 (dk_at dksL_law_46 16 rfl rfl)
theorem dL_law_1264 : decode cL_law 1264 = .ok (.iaload, 1) := dk_46 (dk_at dksL_law_46 17 rfl rfl)
theorem dL_law_1265 : decode cL_law 1265 = .ok (.aload_n 0, 1) := dk_42 (dk_at dksL_law_46 18 rfl rfl)
theorem dL_law_1266 : decode cL_law 1266 = .ok (.iload 4, 2) := dk_21 4 (dk_at dksL_law_46 19 rfl rfl)
theorem dL_law_1268 : decode cL_law 1268 = .ok (.iconst 2, 1) := dk_5 (dk_at dksL_law_46 21 rfl rfl)
theorem dL_law_1269 : decode cL_law 1269 = .ok (.iadd, 1) := dk_96 (dk_at dksL_law_46 22 rfl rfl)
theorem dL_law_1270 : decode cL_law 1270 = .ok (.iaload, 1) := dk_46 (dk_at dksL_law_46 23 rfl rfl)
theorem dL_law_1271 : decode cL_law 1271 = .ok (.aload_n 0, 1) := dk_42 (dk_at dksL_law_47 0 rfl rfl)
theorem dL_law_1272 : decode cL_law 1272 = .ok (.iload 4, 2) := dk_21 4 (dk_at dksL_law_47 1 rfl rfl)
theorem dL_law_1274 : decode cL_law 1274 = .ok (.iconst 3, 1) := dk_6 (dk_at dksL_law_47 3 rfl rfl)
theorem dL_law_1275 : decode cL_law 1275 = .ok (.iadd, 1) := dk_96 (dk_at dksL_law_47 4 rfl rfl)
theorem dL_law_1276 : decode cL_law 1276 = .ok (.iaload, 1) := dk_46 (dk_at dksL_law_47 5 rfl rfl)
theorem dL_law_1277 : decode cL_law 1277 = .ok (.invokevirtual 211, 3) := dk_182 0 211 (dk_at dksL_law_47 6 rfl rfl)
theorem dL_law_1280 : decode cL_law 1280 = .ok (.istore 6, 2) := dk_54 6 (dk_at dksL_law_47 9 rfl rfl)
theorem dL_law_1282 : decode cL_law 1282 = .ok (.aload_n 2, 1) := dk_44 (dk_at dksL_law_47 11 rfl rfl)
theorem dL_law_1283 : decode cL_law 1283 = .ok (.invokevirtual 161, 3) := dk_182 0 161 (dk_at dksL_law_47 12 rfl rfl)
theorem dL_law_1286 : decode cL_law 1286 = .ok (.iload 5, 2) := dk_21 5 (dk_at dksL_law_47 15 rfl rfl)
theorem dL_law_1288 : decode cL_law 1288 = .ok (.if_icmp .eq 5, 3) := dk_159 0 5 (dk_at dksL_law_47 17 rfl rfl)
theorem dL_law_1291 : decode cL_law 1291 = .ok (.iconst 0, 1) := dk_3 (dk_at dksL_law_47 20 rfl rfl)
theorem dL_law_1292 : decode cL_law 1292 = .ok (.ireturn, 1) := dk_172 (dk_at dksL_law_47 21 rfl rfl)
theorem dL_law_1293 : decode cL_law 1293 = .ok (.iload 5, 2) := dk_21 5 (dk_at dksL_law_47 22 rfl rfl)
theorem dL_law_1295 : decode cL_law 1295 = .ok (.ifCond .ne 15, 3) := dk_154 0 15 (dk_at dksL_law_48 0 rfl rfl)
theorem dL_law_1298 : decode cL_law 1298 = .ok (.aload_n 3, 1) := dk_45 (dk_at dksL_law_48 3 rfl rfl)
theorem dL_law_1299 : decode cL_law 1299 = .ok (.iconst 0, 1) := dk_3 (dk_at dksL_law_48 4 rfl rfl)
theorem dL_law_1300 : decode cL_law 1300 = .ok (.laload, 1) := dk_47 (dk_at dksL_law_48 5 rfl rfl)
theorem dL_law_1301 : decode cL_law 1301 = .ok (.iload 6, 2) := dk_21 6 (dk_at dksL_law_48 6 rfl rfl)
theorem dL_law_1303 : decode cL_law 1303 = .ok (.i2l, 1) := dk_133 (dk_at dksL_law_48 8 rfl rfl)
theorem dL_law_1304 : decode cL_law 1304 = .ok (.lcmp, 1) := dk_148 (dk_at dksL_law_48 9 rfl rfl)
theorem dL_law_1305 : decode cL_law 1305 = .ok (.ifCond .eq 5, 3) := dk_153 0 5 (dk_at dksL_law_48 10 rfl rfl)
theorem dL_law_1308 : decode cL_law 1308 = .ok (.iconst 0, 1) := dk_3 (dk_at dksL_law_48 13 rfl rfl)
theorem dL_law_1309 : decode cL_law 1309 = .ok (.ireturn, 1) := dk_172 (dk_at dksL_law_48 14 rfl rfl)
theorem dL_law_1310 : decode cL_law 1310 = .ok (.goto 2135, 3) := dk_167 8 87 (dk_at dksL_law_48 15 rfl rfl)
theorem dL_law_1313 : decode cL_law 1313 = .ok (.aload_n 1, 1) := dk_43 (dk_at dksL_law_48 18 rfl rfl)
theorem dL_law_1314 : decode cL_law 1314 = .ok (.aload_n 0, 1) := dk_42 (dk_at dksL_law_48 19 rfl rfl)
theorem dL_law_1315 : decode cL_law 1315 = .ok (.iload 4, 2) := dk_21 4 (dk_at dksL_law_48 20 rfl rfl)
theorem dL_law_1317 : decode cL_law 1317 = .ok (.iconst 1, 1) := dk_4 (dk_at dksL_law_48 22 rfl rfl)
theorem dL_law_1318 : decode cL_law 1318 = .ok (.iadd, 1) := dk_96 (dk_at dksL_law_48 23 rfl rfl)
theorem dL_law_1319 : decode cL_law 1319 = .ok (.iaload, 1) := dk_46 (dk_at dksL_law_49 0 rfl rfl)
theorem dL_law_1320 : decode cL_law 1320 = .ok (.aload_n 0, 1) := dk_42 (dk_at dksL_law_49 1 rfl rfl)
theorem dL_law_1321 : decode cL_law 1321 = .ok (.iload 4, 2) := dk_21 4 (dk_at dksL_law_49 2 rfl rfl)
theorem dL_law_1323 : decode cL_law 1323 = .ok (.iconst 2, 1) := dk_5 (dk_at dksL_law_49 4 rfl rfl)
theorem dL_law_1324 : decode cL_law 1324 = .ok (.iadd, 1) := dk_96 (dk_at dksL_law_49 5 rfl rfl)
theorem dL_law_1325 : decode cL_law 1325 = .ok (.iaload, 1) := dk_46 (dk_at dksL_law_49 6 rfl rfl)
theorem dL_law_1326 : decode cL_law 1326 = .ok (.aload_n 3, 1) := dk_45 (dk_at dksL_law_49 7 rfl rfl)
theorem dL_law_1327 : decode cL_law 1327 = .ok (.invokestatic 212, 3) := dk_184 0 212 (dk_at dksL_law_49 8 rfl rfl)
theorem dL_law_1330 : decode cL_law 1330 = .ok (.istore 5, 2) := dk_54 5 (dk_at dksL_law_49 11 rfl rfl)
theorem dL_law_1332 : decode cL_law 1332 = .ok (.aload_n 2, 1) := dk_44 (dk_at dksL_law_49 13 rfl rfl)
theorem dL_law_1333 : decode cL_law 1333 = .ok (.aload_n 0, 1) := dk_42 (dk_at dksL_law_49 14 rfl rfl)
theorem dL_law_1334 : decode cL_law 1334 = .ok (.iload 4, 2) := dk_21 4 (dk_at dksL_law_49 15 rfl rfl)
theorem dL_law_1336 : decode cL_law 1336 = .ok (.iconst 1, 1) := dk_4 (dk_at dksL_law_49 17 rfl rfl)
theorem dL_law_1337 : decode cL_law 1337 = .ok (.iadd, 1) := dk_96 (dk_at dksL_law_49 18 rfl rfl)
theorem dL_law_1338 : decode cL_law 1338 = .ok (.iaload, 1) := dk_46 (dk_at dksL_law_49 19 rfl rfl)
theorem dL_law_1339 : decode cL_law 1339 = .ok (.aload_n 0, 1) := dk_42 (dk_at dksL_law_49 20 rfl rfl)
theorem dL_law_1340 : decode cL_law 1340 = .ok (.iload 4, 2) := dk_21 4 (dk_at dksL_law_49 21 rfl rfl)
theorem dL_law_1342 : decode cL_law 1342 = .ok (.iconst 2, 1) := dk_5 (dk_at dksL_law_49 23 rfl rfl)
theorem dL_law_1343 : decode cL_law 1343 = .ok (.iadd, 1) := dk_96 (dk_at dksL_law_50 0 rfl rfl)
theorem dL_law_1344 : decode cL_law 1344 = .ok (.iaload, 1) := dk_46 (dk_at dksL_law_50 1 rfl rfl)
theorem dL_law_1345 : decode cL_law 1345 = .ok (.invokevirtual 214, 3) := dk_182 0 214 (dk_at dksL_law_50 2 rfl rfl)
theorem dL_law_1348 : decode cL_law 1348 = .ok (.istore 6, 2) := dk_54 6 (dk_at dksL_law_50 5 rfl rfl)
theorem dL_law_1350 : decode cL_law 1350 = .ok (.aload_n 2, 1) := dk_44 (dk_at dksL_law_50 7 rfl rfl)
theorem dL_law_1351 : decode cL_law 1351 = .ok (.invokevirtual 161, 3) := dk_182 0 161 (dk_at dksL_law_50 8 rfl rfl)
theorem dL_law_1354 : decode cL_law 1354 = .ok (.iload 5, 2) := dk_21 5 (dk_at dksL_law_50 11 rfl rfl)
theorem dL_law_1356 : decode cL_law 1356 = .ok (.if_icmp .eq 5, 3) := dk_159 0 5 (dk_at dksL_law_50 13 rfl rfl)
theorem dL_law_1359 : decode cL_law 1359 = .ok (.iconst 0, 1) := dk_3 (dk_at dksL_law_50 16 rfl rfl)
theorem dL_law_1360 : decode cL_law 1360 = .ok (.ireturn, 1) := dk_172 (dk_at dksL_law_50 17 rfl rfl)
theorem dL_law_1361 : decode cL_law 1361 = .ok (.iload 5, 2) := dk_21 5 (dk_at dksL_law_50 18 rfl rfl)
theorem dL_law_1363 : decode cL_law 1363 = .ok (.ifCond .ne 15, 3) := dk_154 0 15 (dk_at dksL_law_50 20 rfl rfl)
theorem dL_law_1366 : decode cL_law 1366 = .ok (.aload_n 3, 1) := dk_45 (dk_at dksL_law_50 23 rfl rfl)
theorem dL_law_1367 : decode cL_law 1367 = .ok (.iconst 0, 1) := dk_3 (dk_at dksL_law_51 0 rfl rfl)
theorem dL_law_1368 : decode cL_law 1368 = .ok (.laload, 1) := dk_47 (dk_at dksL_law_51 1 rfl rfl)
theorem dL_law_1369 : decode cL_law 1369 = .ok (.iload 6, 2) := dk_21 6 (dk_at dksL_law_51 2 rfl rfl)
theorem dL_law_1371 : decode cL_law 1371 = .ok (.i2l, 1) := dk_133 (dk_at dksL_law_51 4 rfl rfl)
theorem dL_law_1372 : decode cL_law 1372 = .ok (.lcmp, 1) := dk_148 (dk_at dksL_law_51 5 rfl rfl)
theorem dL_law_1373 : decode cL_law 1373 = .ok (.ifCond .eq 5, 3) := dk_153 0 5 (dk_at dksL_law_51 6 rfl rfl)
theorem dL_law_1376 : decode cL_law 1376 = .ok (.iconst 0, 1) := dk_3 (dk_at dksL_law_51 9 rfl rfl)
theorem dL_law_1377 : decode cL_law 1377 = .ok (.ireturn, 1) := dk_172 (dk_at dksL_law_51 10 rfl rfl)
theorem dL_law_1378 : decode cL_law 1378 = .ok (.goto 2067, 3) := dk_167 8 19 (dk_at dksL_law_51 11 rfl rfl)
theorem dL_law_1381 : decode cL_law 1381 = .ok (.aload_n 1, 1) := dk_43 (dk_at dksL_law_51 14 rfl rfl)
theorem dL_law_1382 : decode cL_law 1382 = .ok (.invokevirtual 215, 3) := dk_182 0 215 (dk_at dksL_law_51 15 rfl rfl)
theorem dL_law_1385 : decode cL_law 1385 = .ok (.aload_n 2, 1) := dk_44 (dk_at dksL_law_51 18 rfl rfl)
theorem dL_law_1386 : decode cL_law 1386 = .ok (.invokevirtual 218, 3) := dk_182 0 218 (dk_at dksL_law_51 19 rfl rfl)
theorem dL_law_1389 : decode cL_law 1389 = .ok (.if_icmp .eq 2056, 3) := dk_159 8 8 (dk_at dksL_law_52 0 rfl rfl)
theorem dL_law_1392 : decode cL_law 1392 = .ok (.iconst 0, 1) := dk_3 (dk_at dksL_law_52 3 rfl rfl)
theorem dL_law_1393 : decode cL_law 1393 = .ok (.ireturn, 1) := dk_172 (dk_at dksL_law_52 4 rfl rfl)
theorem dL_law_1394 : decode cL_law 1394 = .ok (.aload_n 1, 1) := dk_43 (dk_at dksL_law_52 5 rfl rfl)
theorem dL_law_1395 : decode cL_law 1395 = .ok (.aload_n 0, 1) := dk_42 (dk_at dksL_law_52 6 rfl rfl)
theorem dL_law_1396 : decode cL_law 1396 = .ok (.iload 4, 2) := dk_21 4 (dk_at dksL_law_52 7 rfl rfl)
theorem dL_law_1398 : decode cL_law 1398 = .ok (.iconst 1, 1) := dk_4 (dk_at dksL_law_52 9 rfl rfl)
theorem dL_law_1399 : decode cL_law 1399 = .ok (.iadd, 1) := dk_96 (dk_at dksL_law_52 10 rfl rfl)
theorem dL_law_1400 : decode cL_law 1400 = .ok (.iaload, 1) := dk_46 (dk_at dksL_law_52 11 rfl rfl)
theorem dL_law_1401 : decode cL_law 1401 = .ok (.aload_n 3, 1) := dk_45 (dk_at dksL_law_52 12 rfl rfl)
theorem dL_law_1402 : decode cL_law 1402 = .ok (.invokestatic 219, 3) := dk_184 0 219 (dk_at dksL_law_52 13 rfl rfl)
theorem dL_law_1405 : decode cL_law 1405 = .ok (.istore 5, 2) := dk_54 5 (dk_at dksL_law_52 16 rfl rfl)
theorem dL_law_1407 : decode cL_law 1407 = .ok (.aload_n 2, 1) := dk_44 (dk_at dksL_law_52 18 rfl rfl)
theorem dL_law_1408 : decode cL_law 1408 = .ok (.aload_n 0, 1) := dk_42 (dk_at dksL_law_52 19 rfl rfl)
theorem dL_law_1409 : decode cL_law 1409 = .ok (.iload 4, 2) := dk_21 4 (dk_at dksL_law_52 20 rfl rfl)
theorem dL_law_1411 : decode cL_law 1411 = .ok (.iconst 1, 1) := dk_4 (dk_at dksL_law_52 22 rfl rfl)
theorem dL_law_1412 : decode cL_law 1412 = .ok (.iadd, 1) := dk_96 (dk_at dksL_law_52 23 rfl rfl)
theorem dL_law_1413 : decode cL_law 1413 = .ok (.iaload, 1) := dk_46 (dk_at dksL_law_53 0 rfl rfl)
theorem dL_law_1414 : decode cL_law 1414 = .ok (.invokevirtual 221, 3) := dk_182 0 221 (dk_at dksL_law_53 1 rfl rfl)
theorem dL_law_1417 : decode cL_law 1417 = .ok (.istore 6, 2) := dk_54 6 (dk_at dksL_law_53 4 rfl rfl)
theorem dL_law_1419 : decode cL_law 1419 = .ok (.aload_n 2, 1) := dk_44 (dk_at dksL_law_53 6 rfl rfl)
theorem dL_law_1420 : decode cL_law 1420 = .ok (.invokevirtual 161, 3) := dk_182 0 161 (dk_at dksL_law_53 7 rfl rfl)
theorem dL_law_1423 : decode cL_law 1423 = .ok (.iload 5, 2) := dk_21 5 (dk_at dksL_law_53 10 rfl rfl)
theorem dL_law_1425 : decode cL_law 1425 = .ok (.if_icmp .eq 5, 3) := dk_159 0 5 (dk_at dksL_law_53 12 rfl rfl)
theorem dL_law_1428 : decode cL_law 1428 = .ok (.iconst 0, 1) := dk_3 (dk_at dksL_law_53 15 rfl rfl)
theorem dL_law_1429 : decode cL_law 1429 = .ok (.ireturn, 1) := dk_172 (dk_at dksL_law_53 16 rfl rfl)
theorem dL_law_1430 : decode cL_law 1430 = .ok (.iload 5, 2) := dk_21 5 (dk_at dksL_law_53 17 rfl rfl)
theorem dL_law_1432 : decode cL_law 1432 = .ok (.ifCond .ne 15, 3) := dk_154 0 15 (dk_at dksL_law_53 19 rfl rfl)
theorem dL_law_1435 : decode cL_law 1435 = .ok (.aload_n 3, 1) := dk_45 (dk_at dksL_law_53 22 rfl rfl)
theorem dL_law_1436 : decode cL_law 1436 = .ok (.iconst 0, 1) := dk_3 (dk_at dksL_law_53 23 rfl rfl)
theorem dL_law_1437 : decode cL_law 1437 = .ok (.laload, 1) := dk_47 (dk_at dksL_law_54 0 rfl rfl)
theorem dL_law_1438 : decode cL_law 1438 = .ok (.iload 6, 2) := dk_21 6 (dk_at dksL_law_54 1 rfl rfl)
theorem dL_law_1440 : decode cL_law 1440 = .ok (.i2l, 1) := dk_133 (dk_at dksL_law_54 3 rfl rfl)
theorem dL_law_1441 : decode cL_law 1441 = .ok (.lcmp, 1) := dk_148 (dk_at dksL_law_54 4 rfl rfl)
theorem dL_law_1442 : decode cL_law 1442 = .ok (.ifCond .eq 5, 3) := dk_153 0 5 (dk_at dksL_law_54 5 rfl rfl)
theorem dL_law_1445 : decode cL_law 1445 = .ok (.iconst 0, 1) := dk_3 (dk_at dksL_law_54 8 rfl rfl)
theorem dL_law_1446 : decode cL_law 1446 = .ok (.ireturn, 1) := dk_172 (dk_at dksL_law_54 9 rfl rfl)
theorem dL_law_1447 : decode cL_law 1447 = .ok (.goto 1998, 3) := dk_167 7 206 (dk_at dksL_law_54 10 rfl rfl)
theorem dL_law_1450 : decode cL_law 1450 = .ok (.aload_n 1, 1) := dk_43 (dk_at dksL_law_54 13 rfl rfl)
theorem dL_law_1451 : decode cL_law 1451 = .ok (.aload_n 0, 1) := dk_42 (dk_at dksL_law_54 14 rfl rfl)
theorem dL_law_1452 : decode cL_law 1452 = .ok (.iload 4, 2) := dk_21 4 (dk_at dksL_law_54 15 rfl rfl)
theorem dL_law_1454 : decode cL_law 1454 = .ok (.iconst 1, 1) := dk_4 (dk_at dksL_law_54 17 rfl rfl)
theorem dL_law_1455 : decode cL_law 1455 = .ok (.iadd, 1) := dk_96 (dk_at dksL_law_54 18 rfl rfl)
theorem dL_law_1456 : decode cL_law 1456 = .ok (.iaload, 1) := dk_46 (dk_at dksL_law_54 19 rfl rfl)
theorem dL_law_1457 : decode cL_law 1457 = .ok (.aload_n 0, 1) := dk_42 (dk_at dksL_law_54 20 rfl rfl)
theorem dL_law_1458 : decode cL_law 1458 = .ok (.iload 4, 2) := dk_21 4 (dk_at dksL_law_54 21 rfl rfl)
theorem dL_law_1460 : decode cL_law 1460 = .ok (.iconst 2, 1) := dk_5 (dk_at dksL_law_54 23 rfl rfl)
theorem dL_law_1461 : decode cL_law 1461 = .ok (.iadd, 1) := dk_96 (dk_at dksL_law_55 0 rfl rfl)
theorem dL_law_1462 : decode cL_law 1462 = .ok (.iaload, 1) := dk_46 (dk_at dksL_law_55 1 rfl rfl)
theorem dL_law_1463 : decode cL_law 1463 = .ok (.aload_n 3, 1) := dk_45 (dk_at dksL_law_55 2 rfl rfl)
theorem dL_law_1464 : decode cL_law 1464 = .ok (.invokestatic 222, 3) := dk_184 0 222 (dk_at dksL_law_55 3 rfl rfl)
theorem dL_law_1467 : decode cL_law 1467 = .ok (.istore 5, 2) := dk_54 5 (dk_at dksL_law_55 6 rfl rfl)
theorem dL_law_1469 : decode cL_law 1469 = .ok (.aload_n 2, 1) := dk_44 (dk_at dksL_law_55 8 rfl rfl)
theorem dL_law_1470 : decode cL_law 1470 = .ok (.aload_n 0, 1) := dk_42 (dk_at dksL_law_55 9 rfl rfl)
theorem dL_law_1471 : decode cL_law 1471 = .ok (.iload 4, 2) := dk_21 4 (dk_at dksL_law_55 10 rfl rfl)
theorem dL_law_1473 : decode cL_law 1473 = .ok (.iconst 1, 1) := dk_4 (dk_at dksL_law_55 12 rfl rfl)
theorem dL_law_1474 : decode cL_law 1474 = .ok (.iadd, 1) := dk_96 (dk_at dksL_law_55 13 rfl rfl)
theorem dL_law_1475 : decode cL_law 1475 = .ok (.iaload, 1) := dk_46 (dk_at dksL_law_55 14 rfl rfl)
theorem dL_law_1476 : decode cL_law 1476 = .ok (.aload_n 0, 1) := dk_42 (dk_at dksL_law_55 15 rfl rfl)
theorem dL_law_1477 : decode cL_law 1477 = .ok (.iload 4, 2) := dk_21 4 (dk_at dksL_law_55 16 rfl rfl)
theorem dL_law_1479 : decode cL_law 1479 = .ok (.iconst 2, 1) := dk_5 (dk_at dksL_law_55 18 rfl rfl)
theorem dL_law_1480 : decode cL_law 1480 = .ok (.iadd, 1) := dk_96 (dk_at dksL_law_55 19 rfl rfl)
theorem dL_law_1481 : decode cL_law 1481 = .ok (.iaload, 1) := dk_46 (dk_at dksL_law_55 20 rfl rfl)
theorem dL_law_1482 : decode cL_law 1482 = .ok (.invokevirtual 224, 3) := dk_182 0 224 (dk_at dksL_law_55 21 rfl rfl)
theorem dL_law_1485 : decode cL_law 1485 = .ok (.istore 6, 2) := dk_54 6 (dk_at dksL_law_56 0 rfl rfl)
theorem dL_law_1487 : decode cL_law 1487 = .ok (.aload_n 2, 1) := dk_44 (dk_at dksL_law_56 2 rfl rfl)
theorem dL_law_1488 : decode cL_law 1488 = .ok (.invokevirtual 161, 3) := dk_182 0 161 (dk_at dksL_law_56 3 rfl rfl)
theorem dL_law_1491 : decode cL_law 1491 = .ok (.iload 5, 2) := dk_21 5 (dk_at dksL_law_56 6 rfl rfl)
theorem dL_law_1493 : decode cL_law 1493 = .ok (.if_icmp .eq 5, 3) := dk_159 0 5 (dk_at dksL_law_56 8 rfl rfl)
theorem dL_law_1496 : decode cL_law 1496 = .ok (.iconst 0, 1) := dk_3 (dk_at dksL_law_56 11 rfl rfl)
theorem dL_law_1497 : decode cL_law 1497 = .ok (.ireturn, 1) := dk_172 (dk_at dksL_law_56 12 rfl rfl)
theorem dL_law_1498 : decode cL_law 1498 = .ok (.iload 5, 2) := dk_21 5 (dk_at dksL_law_56 13 rfl rfl)
theorem dL_law_1500 : decode cL_law 1500 = .ok (.ifCond .ne 15, 3) := dk_154 0 15 (dk_at dksL_law_56 15 rfl rfl)
theorem dL_law_1503 : decode cL_law 1503 = .ok (.aload_n 3, 1) := dk_45 (dk_at dksL_law_56 18 rfl rfl)
