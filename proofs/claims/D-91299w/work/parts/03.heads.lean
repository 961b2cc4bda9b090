/-! the names of all classes, less their decode rows -/
set_option maxRecDepth 100000
/-! ElephantEdgeLaw -/
def RX0 : String := "ElephantEdgeLaw"
abbrev cX0_land : ByteArray := method_3_code
def yX0_land : MethodName := ⟨RX0, "land", "(LElephantEdge;II[J)I"⟩
abbrev cX0_field : ByteArray := method_4_code
def yX0_field : MethodName := ⟨RX0, "field", "(LElephantEdge;IIII[J)I"⟩
abbrev cX0_stalks : ByteArray := method_5_code
def yX0_stalks : MethodName := ⟨RX0, "stalks", "(LElephantEdge;I[J)I"⟩
abbrev cX0_village : ByteArray := method_6_code
def yX0_village : MethodName := ⟨RX0, "village", "(LElephantEdge;II[J)I"⟩
abbrev cX0_fence : ByteArray := method_7_code
def yX0_fence : MethodName := ⟨RX0, "fence", "(LElephantEdge;IIII[J)I"⟩
abbrev cX0_fenced : ByteArray := method_8_code
def yX0_fenced : MethodName := ⟨RX0, "fenced", "(LElephantEdge;II[J)I"⟩
abbrev cX0_fear : ByteArray := method_9_code
def yX0_fear : MethodName := ⟨RX0, "fear", "(LElephantEdge;I[J)I"⟩
abbrev cX0_rule : ByteArray := method_10_code
def yX0_rule : MethodName := ⟨RX0, "rule", "(LElephantEdge;I[J)I"⟩
abbrev cX0_like : ByteArray := method_11_code
def yX0_like : MethodName := ⟨RX0, "like", "(LElephantEdge;II[J)I"⟩
abbrev cX0_herd : ByteArray := method_12_code
def yX0_herd : MethodName := ⟨RX0, "herd", "(LElephantEdge;III[J)I"⟩
abbrev cX0_cost : ByteArray := method_13_code
def yX0_cost : MethodName := ⟨RX0, "cost", "(LElephantEdge;II[J)I"⟩
abbrev cX0_way : ByteArray := method_14_code
def yX0_way : MethodName := ⟨RX0, "way", "(LElephantEdge;III[J)I"⟩
abbrev cX0_foretold : ByteArray := method_15_code
def yX0_foretold : MethodName := ⟨RX0, "foretold", "(LElephantEdge;II[J)I"⟩
abbrev cX0_pushed : ByteArray := method_16_code
def yX0_pushed : MethodName := ⟨RX0, "pushed", "(LElephantEdge;III[J)I"⟩
abbrev cX0_build : ByteArray := method_17_code
def yX0_build : MethodName := ⟨RX0, "build", "(LElephantEdge;II[J)I"⟩
abbrev cX0_debt : ByteArray := method_18_code
def yX0_debt : MethodName := ⟨RX0, "debt", "(LElephantEdge;I[J)I"⟩
abbrev cX0_watch : ByteArray := method_19_code
def yX0_watch : MethodName := ⟨RX0, "watch", "(LElephantEdge;II[J)I"⟩
abbrev cX0_watched : ByteArray := method_20_code
def yX0_watched : MethodName := ⟨RX0, "watched", "(LElephantEdge;I[J)I"⟩
abbrev cX0_post : ByteArray := method_21_code
def yX0_post : MethodName := ⟨RX0, "post", "(LElephantEdge;II[J)I"⟩
abbrev cX0_join : ByteArray := method_22_code
def yX0_join : MethodName := ⟨RX0, "join", "(LElephantEdge;IZ[J)I"⟩
abbrev cX0_away : ByteArray := method_23_code
def yX0_away : MethodName := ⟨RX0, "away", "(LElephantEdge;IIZ[J)I"⟩
abbrev cX0_rota : ByteArray := method_24_code
def yX0_rota : MethodName := ⟨RX0, "rota", "(LElephantEdge;IIII[J)I"⟩
abbrev cX0_loads : ByteArray := method_25_code
def yX0_loads : MethodName := ⟨RX0, "loads", "(LElephantEdge;II[J)I"⟩
abbrev cX0_find : ByteArray := method_26_code
def yX0_find : MethodName := ⟨RX0, "find", "(LElephantEdge;II[J)I"⟩
abbrev cX0_harm : ByteArray := method_27_code
def yX0_harm : MethodName := ⟨RX0, "harm", "(LElephantEdge;IIII[J)I"⟩
abbrev cX0_fund : ByteArray := method_28_code
def yX0_fund : MethodName := ⟨RX0, "fund", "(LElephantEdge;I[J)I"⟩
abbrev cX0_judge : ByteArray := method_29_code
def yX0_judge : MethodName := ⟨RX0, "judge", "(LElephantEdge;IIII[J)I"⟩
abbrev cX0_claim : ByteArray := method_30_code
def yX0_claim : MethodName := ⟨RX0, "claim", "(LElephantEdge;II[J)I"⟩
abbrev cX0_fix : ByteArray := method_31_code
def yX0_fix : MethodName := ⟨RX0, "fix", "(LElephantEdge;III[J)I"⟩
abbrev cX0_mayBe : ByteArray := method_32_code
def yX0_mayBe : MethodName := ⟨RX0, "mayBe", "(LElephantEdge;III[J)I"⟩
abbrev cX0_spots : ByteArray := method_33_code
def yX0_spots : MethodName := ⟨RX0, "spots", "(LElephantEdge;II[J)I"⟩
abbrev cX0_wire : ByteArray := method_34_code
def yX0_wire : MethodName := ⟨RX0, "wire", "(LElephantEdge;III[J)I"⟩
abbrev cX0_wind : ByteArray := method_35_code
def yX0_wind : MethodName := ⟨RX0, "wind", "(LElephantEdge;II[J)I"⟩
abbrev cX0_trip : ByteArray := method_36_code
def yX0_trip : MethodName := ⟨RX0, "trip", "(LElephantEdge;II[J)I"⟩
abbrev cX0_cause : ByteArray := method_37_code
def yX0_cause : MethodName := ⟨RX0, "cause", "(LElephantEdge;I[J)I"⟩
abbrev cX0_causes : ByteArray := method_38_code
def yX0_causes : MethodName := ⟨RX0, "causes", "(LElephantEdge;II[J)I"⟩
abbrev cX0_called : ByteArray := method_39_code
def yX0_called : MethodName := ⟨RX0, "called", "(LElephantEdge;II[J)I"⟩
abbrev cX0_dusk : ByteArray := method_40_code
def yX0_dusk : MethodName := ⟨RX0, "dusk", "(LElephantEdge;III[J)I"⟩
abbrev cX0_lease : ByteArray := method_41_code
def yX0_lease : MethodName := ⟨RX0, "lease", "(LElephantEdge;IZ[J)I"⟩
abbrev cX0_rent : ByteArray := method_42_code
def yX0_rent : MethodName := ⟨RX0, "rent", "(LElephantEdge;II[J)I"⟩
abbrev cX0_rents : ByteArray := method_43_code
def yX0_rents : MethodName := ⟨RX0, "rents", "(LElephantEdge;II[J)I"⟩
abbrev cX0_gap : ByteArray := method_44_code
def yX0_gap : MethodName := ⟨RX0, "gap", "(LElephantEdge;III[J)I"⟩
theorem q110 : (Jvm.Cond.initialized "ElephantEdgeLaw") ∈ lw_all := lw_g (lw_at lw_m1 0 rfl) rfl
theorem q153 : (Jvm.Cond.classLink "ElephantEdgeLaw" (8 : Nat) "ElephantEdge") ∈ lw_all := lw_g (lw_at lw_m1 43 rfl) rfl
theorem q155 : (Jvm.Cond.methodLink "ElephantEdgeLaw" (151 : Nat) ({ cls := "ElephantEdge", name := "<init>", desc := "()V" } : Jvm.MethodName)) ∈ lw_all := lw_g (lw_at lw_m1 45 rfl) rfl
theorem q481 : (Jvm.Cond.methodLink "ElephantEdgeLaw" (185 : Nat) ({ cls := "ElephantEdge", name := "feed", desc := "(IIIII)I" } : Jvm.MethodName)) ∈ lw_all := lw_g (lw_at lw_m2 131 rfl) rfl
theorem q485 : (Jvm.Cond.methodLink "ElephantEdgeLaw" (215 : Nat) ({ cls := "ElephantEdge", name := "night", desc := "()I" } : Jvm.MethodName)) ∈ lw_all := lw_g (lw_at lw_m2 135 rfl) rfl
theorem q718 : (Jvm.Cond.methodLink "ElephantEdgeLaw" (225 : Nat) ({ cls := "ElephantEdge", name := "turn", desc := "(I)I" } : Jvm.MethodName)) ∈ lw_all := lw_g (lw_at lw_m3 128 rfl) rfl
theorem q726 : (Jvm.Cond.methodLink "ElephantEdgeLaw" (306 : Nat) ({ cls := "ElephantEdge", name := "count", desc := "(I)I" } : Jvm.MethodName)) ∈ lw_all := lw_g (lw_at lw_m3 136 rfl) rfl
theorem q734 : (Jvm.Cond.methodLink "ElephantEdgeLaw" (155 : Nat) ({ cls := "ElephantEdgeLaw", name := "land", desc := "(LElephantEdge;II[J)I" } : Jvm.MethodName)) ∈ lw_all := lw_g (lw_at lw_m3 144 rfl) rfl
theorem q735 : (Jvm.Cond.static ({ cls := "ElephantEdgeLaw", name := "land", desc := "(LElephantEdge;II[J)I" } : Jvm.MethodName)) ∈ lw_all := lw_g (lw_at lw_m3 145 rfl) rfl
theorem q736 : (Jvm.Cond.codeWith ({ cls := "ElephantEdgeLaw", name := "land", desc := "(LElephantEdge;II[J)I" } : Jvm.MethodName) method_3_code (5 : Nat) (Option.some Jvm.ClassFile.FieldType.int) [((0 : Nat), (10 : Nat), (13 : Nat), (13 : Nat)), ((0 : Nat), (10 : Nat), (17 : Nat), (15 : Nat)), ((0 : Nat), (10 : Nat), (21 : Nat), (17 : Nat))]) ∈ lw_all := lw_g (lw_at lw_m3 146 rfl) rfl
theorem q737 : (Jvm.Cond.classLink "ElephantEdgeLaw" (13 : Nat) "java/lang/IndexOutOfBoundsException") ∈ lw_all := lw_g (lw_at lw_m3 147 rfl) rfl
theorem q815 : (Jvm.Cond.classLink "ElephantEdgeLaw" (15 : Nat) "java/lang/IllegalArgumentException") ∈ lw_all := lw_g (lw_at lw_m3 225 rfl) rfl
theorem q816 : (Jvm.Cond.classLink "ElephantEdgeLaw" (17 : Nat) "java/lang/IllegalStateException") ∈ lw_all := lw_g (lw_at lw_m3 226 rfl) rfl
theorem q817 : (Jvm.Cond.methodLink "ElephantEdgeLaw" (7 : Nat) ({ cls := "ElephantEdge", name := "land", desc := "(II)I" } : Jvm.MethodName)) ∈ lw_all := lw_g (lw_at lw_m3 227 rfl) rfl
theorem q889 : (Jvm.Cond.methodLink "ElephantEdgeLaw" (165 : Nat) ({ cls := "ElephantEdgeLaw", name := "field", desc := "(LElephantEdge;IIII[J)I" } : Jvm.MethodName)) ∈ lw_all := lw_g (lw_at lw_m4 59 rfl) rfl
theorem q890 : (Jvm.Cond.static ({ cls := "ElephantEdgeLaw", name := "field", desc := "(LElephantEdge;IIII[J)I" } : Jvm.MethodName)) ∈ lw_all := lw_g (lw_at lw_m4 60 rfl) rfl
theorem q891 : (Jvm.Cond.codeWith ({ cls := "ElephantEdgeLaw", name := "field", desc := "(LElephantEdge;IIII[J)I" } : Jvm.MethodName) method_4_code (7 : Nat) (Option.some Jvm.ClassFile.FieldType.int) [((0 : Nat), (14 : Nat), (17 : Nat), (13 : Nat)), ((0 : Nat), (14 : Nat), (21 : Nat), (15 : Nat))]) ∈ lw_all := lw_g (lw_at lw_m4 61 rfl) rfl
theorem q892 : (Jvm.Cond.methodLink "ElephantEdgeLaw" (19 : Nat) ({ cls := "ElephantEdge", name := "field", desc := "(IIII)I" } : Jvm.MethodName)) ∈ lw_all := lw_g (lw_at lw_m4 62 rfl) rfl
theorem q899 : (Jvm.Cond.methodLink "ElephantEdgeLaw" (169 : Nat) ({ cls := "ElephantEdgeLaw", name := "stalks", desc := "(LElephantEdge;I[J)I" } : Jvm.MethodName)) ∈ lw_all := lw_g (lw_at lw_m4 69 rfl) rfl
theorem q900 : (Jvm.Cond.static ({ cls := "ElephantEdgeLaw", name := "stalks", desc := "(LElephantEdge;I[J)I" } : Jvm.MethodName)) ∈ lw_all := lw_g (lw_at lw_m4 70 rfl) rfl
theorem q901 : (Jvm.Cond.codeWith ({ cls := "ElephantEdgeLaw", name := "stalks", desc := "(LElephantEdge;I[J)I" } : Jvm.MethodName) method_5_code (4 : Nat) (Option.some Jvm.ClassFile.FieldType.int) [((0 : Nat), (9 : Nat), (12 : Nat), (13 : Nat))]) ∈ lw_all := lw_g (lw_at lw_m4 71 rfl) rfl
theorem q902 : (Jvm.Cond.methodLink "ElephantEdgeLaw" (23 : Nat) ({ cls := "ElephantEdge", name := "stalks", desc := "(I)I" } : Jvm.MethodName)) ∈ lw_all := lw_g (lw_at lw_m4 72 rfl) rfl
theorem q906 : (Jvm.Cond.methodLink "ElephantEdgeLaw" (173 : Nat) ({ cls := "ElephantEdgeLaw", name := "village", desc := "(LElephantEdge;II[J)I" } : Jvm.MethodName)) ∈ lw_all := lw_g (lw_at lw_m4 76 rfl) rfl
theorem q907 : (Jvm.Cond.static ({ cls := "ElephantEdgeLaw", name := "village", desc := "(LElephantEdge;II[J)I" } : Jvm.MethodName)) ∈ lw_all := lw_g (lw_at lw_m4 77 rfl) rfl
theorem q908 : (Jvm.Cond.codeWith ({ cls := "ElephantEdgeLaw", name := "village", desc := "(LElephantEdge;II[J)I" } : Jvm.MethodName) method_6_code (5 : Nat) (Option.some Jvm.ClassFile.FieldType.int) [((0 : Nat), (10 : Nat), (13 : Nat), (15 : Nat))]) ∈ lw_all := lw_g (lw_at lw_m4 78 rfl) rfl
theorem q909 : (Jvm.Cond.methodLink "ElephantEdgeLaw" (27 : Nat) ({ cls := "ElephantEdge", name := "village", desc := "(II)I" } : Jvm.MethodName)) ∈ lw_all := lw_g (lw_at lw_m4 79 rfl) rfl
theorem q913 : (Jvm.Cond.methodLink "ElephantEdgeLaw" (176 : Nat) ({ cls := "ElephantEdgeLaw", name := "fence", desc := "(LElephantEdge;IIII[J)I" } : Jvm.MethodName)) ∈ lw_all := lw_g (lw_at lw_m4 83 rfl) rfl
theorem q914 : (Jvm.Cond.static ({ cls := "ElephantEdgeLaw", name := "fence", desc := "(LElephantEdge;IIII[J)I" } : Jvm.MethodName)) ∈ lw_all := lw_g (lw_at lw_m4 84 rfl) rfl
theorem q915 : (Jvm.Cond.codeWith ({ cls := "ElephantEdgeLaw", name := "fence", desc := "(LElephantEdge;IIII[J)I" } : Jvm.MethodName) method_7_code (7 : Nat) (Option.some Jvm.ClassFile.FieldType.int) [((0 : Nat), (14 : Nat), (17 : Nat), (13 : Nat)), ((0 : Nat), (14 : Nat), (21 : Nat), (15 : Nat))]) ∈ lw_all := lw_g (lw_at lw_m4 85 rfl) rfl
theorem q916 : (Jvm.Cond.methodLink "ElephantEdgeLaw" (30 : Nat) ({ cls := "ElephantEdge", name := "fence", desc := "(IIII)I" } : Jvm.MethodName)) ∈ lw_all := lw_g (lw_at lw_m4 86 rfl) rfl
theorem q932 : (Jvm.Cond.methodLink "ElephantEdgeLaw" (179 : Nat) ({ cls := "ElephantEdgeLaw", name := "fenced", desc := "(LElephantEdge;II[J)I" } : Jvm.MethodName)) ∈ lw_all := lw_g (lw_at lw_m4 102 rfl) rfl
theorem q933 : (Jvm.Cond.static ({ cls := "ElephantEdgeLaw", name := "fenced", desc := "(LElephantEdge;II[J)I" } : Jvm.MethodName)) ∈ lw_all := lw_g (lw_at lw_m4 103 rfl) rfl
theorem q934 : (Jvm.Cond.codeWith ({ cls := "ElephantEdgeLaw", name := "fenced", desc := "(LElephantEdge;II[J)I" } : Jvm.MethodName) method_8_code (5 : Nat) (Option.some Jvm.ClassFile.FieldType.int) [((0 : Nat), (10 : Nat), (13 : Nat), (13 : Nat)), ((0 : Nat), (10 : Nat), (17 : Nat), (15 : Nat))]) ∈ lw_all := lw_g (lw_at lw_m4 104 rfl) rfl
theorem q935 : (Jvm.Cond.methodLink "ElephantEdgeLaw" (33 : Nat) ({ cls := "ElephantEdge", name := "fenced", desc := "(II)I" } : Jvm.MethodName)) ∈ lw_all := lw_g (lw_at lw_m4 105 rfl) rfl
theorem q939 : (Jvm.Cond.methodLink "ElephantEdgeLaw" (182 : Nat) ({ cls := "ElephantEdgeLaw", name := "fear", desc := "(LElephantEdge;I[J)I" } : Jvm.MethodName)) ∈ lw_all := lw_g (lw_at lw_m4 109 rfl) rfl
theorem q940 : (Jvm.Cond.static ({ cls := "ElephantEdgeLaw", name := "fear", desc := "(LElephantEdge;I[J)I" } : Jvm.MethodName)) ∈ lw_all := lw_g (lw_at lw_m4 110 rfl) rfl
theorem q941 : (Jvm.Cond.codeWith ({ cls := "ElephantEdgeLaw", name := "fear", desc := "(LElephantEdge;I[J)I" } : Jvm.MethodName) method_9_code (4 : Nat) (Option.some Jvm.ClassFile.FieldType.int) [((0 : Nat), (9 : Nat), (12 : Nat), (13 : Nat))]) ∈ lw_all := lw_g (lw_at lw_m4 111 rfl) rfl
theorem q942 : (Jvm.Cond.methodLink "ElephantEdgeLaw" (36 : Nat) ({ cls := "ElephantEdge", name := "fear", desc := "(I)I" } : Jvm.MethodName)) ∈ lw_all := lw_g (lw_at lw_m4 112 rfl) rfl
theorem q946 : (Jvm.Cond.methodLink "ElephantEdgeLaw" (190 : Nat) ({ cls := "ElephantEdgeLaw", name := "rule", desc := "(LElephantEdge;I[J)I" } : Jvm.MethodName)) ∈ lw_all := lw_g (lw_at lw_m4 116 rfl) rfl
theorem q947 : (Jvm.Cond.static ({ cls := "ElephantEdgeLaw", name := "rule", desc := "(LElephantEdge;I[J)I" } : Jvm.MethodName)) ∈ lw_all := lw_g (lw_at lw_m4 117 rfl) rfl
theorem q948 : (Jvm.Cond.codeWith ({ cls := "ElephantEdgeLaw", name := "rule", desc := "(LElephantEdge;I[J)I" } : Jvm.MethodName) method_10_code (4 : Nat) (Option.some Jvm.ClassFile.FieldType.int) [((0 : Nat), (9 : Nat), (12 : Nat), (15 : Nat))]) ∈ lw_all := lw_g (lw_at lw_m4 118 rfl) rfl
theorem q949 : (Jvm.Cond.methodLink "ElephantEdgeLaw" (39 : Nat) ({ cls := "ElephantEdge", name := "rule", desc := "(I)I" } : Jvm.MethodName)) ∈ lw_all := lw_g (lw_at lw_m4 119 rfl) rfl
theorem q1140 : (Jvm.Cond.methodLink "ElephantEdgeLaw" (193 : Nat) ({ cls := "ElephantEdgeLaw", name := "like", desc := "(LElephantEdge;II[J)I" } : Jvm.MethodName)) ∈ lw_all := lw_g (lw_at lw_m5 70 rfl) rfl
theorem q1141 : (Jvm.Cond.static ({ cls := "ElephantEdgeLaw", name := "like", desc := "(LElephantEdge;II[J)I" } : Jvm.MethodName)) ∈ lw_all := lw_g (lw_at lw_m5 71 rfl) rfl
theorem q1142 : (Jvm.Cond.codeWith ({ cls := "ElephantEdgeLaw", name := "like", desc := "(LElephantEdge;II[J)I" } : Jvm.MethodName) method_11_code (5 : Nat) (Option.some Jvm.ClassFile.FieldType.int) [((0 : Nat), (10 : Nat), (13 : Nat), (15 : Nat))]) ∈ lw_all := lw_g (lw_at lw_m5 72 rfl) rfl
theorem q1143 : (Jvm.Cond.methodLink "ElephantEdgeLaw" (42 : Nat) ({ cls := "ElephantEdge", name := "like", desc := "(II)I" } : Jvm.MethodName)) ∈ lw_all := lw_g (lw_at lw_m5 73 rfl) rfl
theorem q1147 : (Jvm.Cond.methodLink "ElephantEdgeLaw" (196 : Nat) ({ cls := "ElephantEdgeLaw", name := "herd", desc := "(LElephantEdge;III[J)I" } : Jvm.MethodName)) ∈ lw_all := lw_g (lw_at lw_m5 77 rfl) rfl
theorem q1148 : (Jvm.Cond.static ({ cls := "ElephantEdgeLaw", name := "herd", desc := "(LElephantEdge;III[J)I" } : Jvm.MethodName)) ∈ lw_all := lw_g (lw_at lw_m5 78 rfl) rfl
theorem q1149 : (Jvm.Cond.codeWith ({ cls := "ElephantEdgeLaw", name := "herd", desc := "(LElephantEdge;III[J)I" } : Jvm.MethodName) method_12_code (6 : Nat) (Option.some Jvm.ClassFile.FieldType.int) [((0 : Nat), (12 : Nat), (15 : Nat), (13 : Nat)), ((0 : Nat), (12 : Nat), (19 : Nat), (15 : Nat))]) ∈ lw_all := lw_g (lw_at lw_m5 79 rfl) rfl
theorem q1150 : (Jvm.Cond.methodLink "ElephantEdgeLaw" (45 : Nat) ({ cls := "ElephantEdge", name := "herd", desc := "(III)I" } : Jvm.MethodName)) ∈ lw_all := lw_g (lw_at lw_m5 80 rfl) rfl
theorem q1183 : (Jvm.Cond.methodLink "ElephantEdgeLaw" (200 : Nat) ({ cls := "ElephantEdgeLaw", name := "cost", desc := "(LElephantEdge;II[J)I" } : Jvm.MethodName)) ∈ lw_all := lw_g (lw_at lw_m5 113 rfl) rfl
theorem q1184 : (Jvm.Cond.static ({ cls := "ElephantEdgeLaw", name := "cost", desc := "(LElephantEdge;II[J)I" } : Jvm.MethodName)) ∈ lw_all := lw_g (lw_at lw_m5 114 rfl) rfl
theorem q1185 : (Jvm.Cond.codeWith ({ cls := "ElephantEdgeLaw", name := "cost", desc := "(LElephantEdge;II[J)I" } : Jvm.MethodName) method_13_code (5 : Nat) (Option.some Jvm.ClassFile.FieldType.int) [((0 : Nat), (10 : Nat), (13 : Nat), (52 : Nat)), ((0 : Nat), (10 : Nat), (17 : Nat), (13 : Nat))]) ∈ lw_all := lw_g (lw_at lw_m5 115 rfl) rfl
theorem q1186 : (Jvm.Cond.classLink "ElephantEdgeLaw" (52 : Nat) "java/util/NoSuchElementException") ∈ lw_all := lw_g (lw_at lw_m5 116 rfl) rfl
theorem q1187 : (Jvm.Cond.methodLink "ElephantEdgeLaw" (49 : Nat) ({ cls := "ElephantEdge", name := "cost", desc := "(II)I" } : Jvm.MethodName)) ∈ lw_all := lw_g (lw_at lw_m5 117 rfl) rfl
theorem q1210 : (Jvm.Cond.methodLink "ElephantEdgeLaw" (203 : Nat) ({ cls := "ElephantEdgeLaw", name := "way", desc := "(LElephantEdge;III[J)I" } : Jvm.MethodName)) ∈ lw_all := lw_g (lw_at lw_m5 140 rfl) rfl
theorem q1211 : (Jvm.Cond.static ({ cls := "ElephantEdgeLaw", name := "way", desc := "(LElephantEdge;III[J)I" } : Jvm.MethodName)) ∈ lw_all := lw_g (lw_at lw_m5 141 rfl) rfl
theorem q1212 : (Jvm.Cond.codeWith ({ cls := "ElephantEdgeLaw", name := "way", desc := "(LElephantEdge;III[J)I" } : Jvm.MethodName) method_14_code (6 : Nat) (Option.some Jvm.ClassFile.FieldType.int) [((0 : Nat), (12 : Nat), (15 : Nat), (52 : Nat)), ((0 : Nat), (12 : Nat), (19 : Nat), (13 : Nat))]) ∈ lw_all := lw_g (lw_at lw_m5 142 rfl) rfl
theorem q1213 : (Jvm.Cond.methodLink "ElephantEdgeLaw" (54 : Nat) ({ cls := "ElephantEdge", name := "way", desc := "(III)I" } : Jvm.MethodName)) ∈ lw_all := lw_g (lw_at lw_m5 143 rfl) rfl
theorem q1217 : (Jvm.Cond.methodLink "ElephantEdgeLaw" (206 : Nat) ({ cls := "ElephantEdgeLaw", name := "foretold", desc := "(LElephantEdge;II[J)I" } : Jvm.MethodName)) ∈ lw_all := lw_g (lw_at lw_m5 147 rfl) rfl
theorem q1218 : (Jvm.Cond.static ({ cls := "ElephantEdgeLaw", name := "foretold", desc := "(LElephantEdge;II[J)I" } : Jvm.MethodName)) ∈ lw_all := lw_g (lw_at lw_m5 148 rfl) rfl
theorem q1219 : (Jvm.Cond.codeWith ({ cls := "ElephantEdgeLaw", name := "foretold", desc := "(LElephantEdge;II[J)I" } : Jvm.MethodName) method_15_code (5 : Nat) (Option.some Jvm.ClassFile.FieldType.int) [((0 : Nat), (10 : Nat), (13 : Nat), (15 : Nat))]) ∈ lw_all := lw_g (lw_at lw_m5 149 rfl) rfl
theorem q1220 : (Jvm.Cond.methodLink "ElephantEdgeLaw" (57 : Nat) ({ cls := "ElephantEdge", name := "foretold", desc := "(II)I" } : Jvm.MethodName)) ∈ lw_all := lw_g (lw_at lw_m5 150 rfl) rfl
theorem q1227 : (Jvm.Cond.methodLink "ElephantEdgeLaw" (209 : Nat) ({ cls := "ElephantEdgeLaw", name := "pushed", desc := "(LElephantEdge;III[J)I" } : Jvm.MethodName)) ∈ lw_all := lw_g (lw_at lw_m5 157 rfl) rfl
theorem q1228 : (Jvm.Cond.static ({ cls := "ElephantEdgeLaw", name := "pushed", desc := "(LElephantEdge;III[J)I" } : Jvm.MethodName)) ∈ lw_all := lw_g (lw_at lw_m5 158 rfl) rfl
theorem q1229 : (Jvm.Cond.codeWith ({ cls := "ElephantEdgeLaw", name := "pushed", desc := "(LElephantEdge;III[J)I" } : Jvm.MethodName) method_16_code (6 : Nat) (Option.some Jvm.ClassFile.FieldType.int) [((0 : Nat), (12 : Nat), (15 : Nat), (13 : Nat)), ((0 : Nat), (12 : Nat), (19 : Nat), (15 : Nat))]) ∈ lw_all := lw_g (lw_at lw_m5 159 rfl) rfl
theorem q1230 : (Jvm.Cond.methodLink "ElephantEdgeLaw" (60 : Nat) ({ cls := "ElephantEdge", name := "pushed", desc := "(III)I" } : Jvm.MethodName)) ∈ lw_all := lw_g (lw_at lw_m5 160 rfl) rfl
theorem q1234 : (Jvm.Cond.methodLink "ElephantEdgeLaw" (212 : Nat) ({ cls := "ElephantEdgeLaw", name := "build", desc := "(LElephantEdge;II[J)I" } : Jvm.MethodName)) ∈ lw_all := lw_g (lw_at lw_m5 164 rfl) rfl
theorem q1235 : (Jvm.Cond.static ({ cls := "ElephantEdgeLaw", name := "build", desc := "(LElephantEdge;II[J)I" } : Jvm.MethodName)) ∈ lw_all := lw_g (lw_at lw_m5 165 rfl) rfl
theorem q1236 : (Jvm.Cond.codeWith ({ cls := "ElephantEdgeLaw", name := "build", desc := "(LElephantEdge;II[J)I" } : Jvm.MethodName) method_17_code (5 : Nat) (Option.some Jvm.ClassFile.FieldType.int) [((0 : Nat), (10 : Nat), (13 : Nat), (15 : Nat))]) ∈ lw_all := lw_g (lw_at lw_m5 166 rfl) rfl
theorem q1237 : (Jvm.Cond.methodLink "ElephantEdgeLaw" (63 : Nat) ({ cls := "ElephantEdge", name := "build", desc := "(II)I" } : Jvm.MethodName)) ∈ lw_all := lw_g (lw_at lw_m5 167 rfl) rfl
theorem q1247 : (Jvm.Cond.methodLink "ElephantEdgeLaw" (219 : Nat) ({ cls := "ElephantEdgeLaw", name := "debt", desc := "(LElephantEdge;I[J)I" } : Jvm.MethodName)) ∈ lw_all := lw_g (lw_at lw_m5 177 rfl) rfl
theorem q1248 : (Jvm.Cond.static ({ cls := "ElephantEdgeLaw", name := "debt", desc := "(LElephantEdge;I[J)I" } : Jvm.MethodName)) ∈ lw_all := lw_g (lw_at lw_m5 178 rfl) rfl
theorem q1249 : (Jvm.Cond.codeWith ({ cls := "ElephantEdgeLaw", name := "debt", desc := "(LElephantEdge;I[J)I" } : Jvm.MethodName) method_18_code (4 : Nat) (Option.some Jvm.ClassFile.FieldType.int) [((0 : Nat), (9 : Nat), (12 : Nat), (15 : Nat))]) ∈ lw_all := lw_g (lw_at lw_m5 179 rfl) rfl
theorem q1250 : (Jvm.Cond.methodLink "ElephantEdgeLaw" (66 : Nat) ({ cls := "ElephantEdge", name := "debt", desc := "(I)I" } : Jvm.MethodName)) ∈ lw_all := lw_g (lw_at lw_m5 180 rfl) rfl
theorem q1254 : (Jvm.Cond.methodLink "ElephantEdgeLaw" (222 : Nat) ({ cls := "ElephantEdgeLaw", name := "watch", desc := "(LElephantEdge;II[J)I" } : Jvm.MethodName)) ∈ lw_all := lw_g (lw_at lw_m5 184 rfl) rfl
theorem q1255 : (Jvm.Cond.static ({ cls := "ElephantEdgeLaw", name := "watch", desc := "(LElephantEdge;II[J)I" } : Jvm.MethodName)) ∈ lw_all := lw_g (lw_at lw_m5 185 rfl) rfl
theorem q1256 : (Jvm.Cond.codeWith ({ cls := "ElephantEdgeLaw", name := "watch", desc := "(LElephantEdge;II[J)I" } : Jvm.MethodName) method_19_code (5 : Nat) (Option.some Jvm.ClassFile.FieldType.int) [((0 : Nat), (10 : Nat), (13 : Nat), (13 : Nat)), ((0 : Nat), (10 : Nat), (17 : Nat), (15 : Nat))]) ∈ lw_all := lw_g (lw_at lw_m5 186 rfl) rfl
theorem q1257 : (Jvm.Cond.methodLink "ElephantEdgeLaw" (69 : Nat) ({ cls := "ElephantEdge", name := "watch", desc := "(II)I" } : Jvm.MethodName)) ∈ lw_all := lw_g (lw_at lw_m5 187 rfl) rfl
theorem q1261 : (Jvm.Cond.methodLink "ElephantEdgeLaw" (229 : Nat) ({ cls := "ElephantEdgeLaw", name := "watched", desc := "(LElephantEdge;I[J)I" } : Jvm.MethodName)) ∈ lw_all := lw_g (lw_at lw_m5 191 rfl) rfl
theorem q1262 : (Jvm.Cond.static ({ cls := "ElephantEdgeLaw", name := "watched", desc := "(LElephantEdge;I[J)I" } : Jvm.MethodName)) ∈ lw_all := lw_g (lw_at lw_m5 192 rfl) rfl
theorem q1263 : (Jvm.Cond.codeWith ({ cls := "ElephantEdgeLaw", name := "watched", desc := "(LElephantEdge;I[J)I" } : Jvm.MethodName) method_20_code (4 : Nat) (Option.some Jvm.ClassFile.FieldType.int) [((0 : Nat), (9 : Nat), (12 : Nat), (15 : Nat))]) ∈ lw_all := lw_g (lw_at lw_m5 193 rfl) rfl
theorem q1264 : (Jvm.Cond.methodLink "ElephantEdgeLaw" (72 : Nat) ({ cls := "ElephantEdge", name := "watched", desc := "(I)I" } : Jvm.MethodName)) ∈ lw_all := lw_g (lw_at lw_m5 194 rfl) rfl
theorem q1268 : (Jvm.Cond.methodLink "ElephantEdgeLaw" (232 : Nat) ({ cls := "ElephantEdgeLaw", name := "post", desc := "(LElephantEdge;II[J)I" } : Jvm.MethodName)) ∈ lw_all := lw_g (lw_at lw_m5 198 rfl) rfl
theorem q1269 : (Jvm.Cond.static ({ cls := "ElephantEdgeLaw", name := "post", desc := "(LElephantEdge;II[J)I" } : Jvm.MethodName)) ∈ lw_all := lw_g (lw_at lw_m5 199 rfl) rfl
theorem q1270 : (Jvm.Cond.codeWith ({ cls := "ElephantEdgeLaw", name := "post", desc := "(LElephantEdge;II[J)I" } : Jvm.MethodName) method_21_code (5 : Nat) (Option.some Jvm.ClassFile.FieldType.int) [((0 : Nat), (10 : Nat), (13 : Nat), (15 : Nat))]) ∈ lw_all := lw_g (lw_at lw_m5 200 rfl) rfl
theorem q1271 : (Jvm.Cond.methodLink "ElephantEdgeLaw" (75 : Nat) ({ cls := "ElephantEdge", name := "post", desc := "(II)I" } : Jvm.MethodName)) ∈ lw_all := lw_g (lw_at lw_m5 201 rfl) rfl
theorem q1281 : (Jvm.Cond.methodLink "ElephantEdgeLaw" (235 : Nat) ({ cls := "ElephantEdgeLaw", name := "join", desc := "(LElephantEdge;IZ[J)I" } : Jvm.MethodName)) ∈ lw_all := lw_g (lw_at lw_m5 211 rfl) rfl
theorem q1282 : (Jvm.Cond.static ({ cls := "ElephantEdgeLaw", name := "join", desc := "(LElephantEdge;IZ[J)I" } : Jvm.MethodName)) ∈ lw_all := lw_g (lw_at lw_m5 212 rfl) rfl
theorem q1283 : (Jvm.Cond.codeWith ({ cls := "ElephantEdgeLaw", name := "join", desc := "(LElephantEdge;IZ[J)I" } : Jvm.MethodName) method_22_code (5 : Nat) (Option.some Jvm.ClassFile.FieldType.int) [((0 : Nat), (10 : Nat), (13 : Nat), (15 : Nat))]) ∈ lw_all := lw_g (lw_at lw_m5 213 rfl) rfl
theorem q1284 : (Jvm.Cond.methodLink "ElephantEdgeLaw" (78 : Nat) ({ cls := "ElephantEdge", name := "join", desc := "(IZ)I" } : Jvm.MethodName)) ∈ lw_all := lw_g (lw_at lw_m5 214 rfl) rfl
theorem q1288 : (Jvm.Cond.methodLink "ElephantEdgeLaw" (239 : Nat) ({ cls := "ElephantEdgeLaw", name := "away", desc := "(LElephantEdge;IIZ[J)I" } : Jvm.MethodName)) ∈ lw_all := lw_g (lw_at lw_m5 218 rfl) rfl
theorem q1289 : (Jvm.Cond.static ({ cls := "ElephantEdgeLaw", name := "away", desc := "(LElephantEdge;IIZ[J)I" } : Jvm.MethodName)) ∈ lw_all := lw_g (lw_at lw_m5 219 rfl) rfl
theorem q1290 : (Jvm.Cond.codeWith ({ cls := "ElephantEdgeLaw", name := "away", desc := "(LElephantEdge;IIZ[J)I" } : Jvm.MethodName) method_23_code (6 : Nat) (Option.some Jvm.ClassFile.FieldType.int) [((0 : Nat), (19 : Nat), (22 : Nat), (15 : Nat))]) ∈ lw_all := lw_g (lw_at lw_m5 220 rfl) rfl
theorem q1291 : (Jvm.Cond.methodLink "ElephantEdgeLaw" (82 : Nat) ({ cls := "ElephantEdge", name := "away", desc := "(IIZ)Z" } : Jvm.MethodName)) ∈ lw_all := lw_g (lw_at lw_m5 221 rfl) rfl
theorem q1295 : (Jvm.Cond.methodLink "ElephantEdgeLaw" (243 : Nat) ({ cls := "ElephantEdgeLaw", name := "rota", desc := "(LElephantEdge;IIII[J)I" } : Jvm.MethodName)) ∈ lw_all := lw_g (lw_at lw_m5 225 rfl) rfl
theorem q1296 : (Jvm.Cond.static ({ cls := "ElephantEdgeLaw", name := "rota", desc := "(LElephantEdge;IIII[J)I" } : Jvm.MethodName)) ∈ lw_all := lw_g (lw_at lw_m5 226 rfl) rfl
theorem q1297 : (Jvm.Cond.codeWith ({ cls := "ElephantEdgeLaw", name := "rota", desc := "(LElephantEdge;IIII[J)I" } : Jvm.MethodName) method_24_code (7 : Nat) (Option.some Jvm.ClassFile.FieldType.int) [((0 : Nat), (14 : Nat), (17 : Nat), (15 : Nat))]) ∈ lw_all := lw_g (lw_at lw_m5 227 rfl) rfl
theorem q1298 : (Jvm.Cond.methodLink "ElephantEdgeLaw" (86 : Nat) ({ cls := "ElephantEdge", name := "rota", desc := "(IIII)I" } : Jvm.MethodName)) ∈ lw_all := lw_g (lw_at lw_m5 228 rfl) rfl
theorem q1368 : (Jvm.Cond.methodLink "ElephantEdgeLaw" (246 : Nat) ({ cls := "ElephantEdgeLaw", name := "loads", desc := "(LElephantEdge;II[J)I" } : Jvm.MethodName)) ∈ lw_all := lw_g (lw_at lw_m6 58 rfl) rfl
theorem q1369 : (Jvm.Cond.static ({ cls := "ElephantEdgeLaw", name := "loads", desc := "(LElephantEdge;II[J)I" } : Jvm.MethodName)) ∈ lw_all := lw_g (lw_at lw_m6 59 rfl) rfl
theorem q1370 : (Jvm.Cond.codeWith ({ cls := "ElephantEdgeLaw", name := "loads", desc := "(LElephantEdge;II[J)I" } : Jvm.MethodName) method_25_code (5 : Nat) (Option.some Jvm.ClassFile.FieldType.int) [((0 : Nat), (10 : Nat), (13 : Nat), (15 : Nat))]) ∈ lw_all := lw_g (lw_at lw_m6 60 rfl) rfl
theorem q1371 : (Jvm.Cond.methodLink "ElephantEdgeLaw" (89 : Nat) ({ cls := "ElephantEdge", name := "loads", desc := "(II)I" } : Jvm.MethodName)) ∈ lw_all := lw_g (lw_at lw_m6 61 rfl) rfl
theorem q1375 : (Jvm.Cond.methodLink "ElephantEdgeLaw" (249 : Nat) ({ cls := "ElephantEdgeLaw", name := "find", desc := "(LElephantEdge;II[J)I" } : Jvm.MethodName)) ∈ lw_all := lw_g (lw_at lw_m6 65 rfl) rfl
theorem q1376 : (Jvm.Cond.static ({ cls := "ElephantEdgeLaw", name := "find", desc := "(LElephantEdge;II[J)I" } : Jvm.MethodName)) ∈ lw_all := lw_g (lw_at lw_m6 66 rfl) rfl
theorem q1377 : (Jvm.Cond.codeWith ({ cls := "ElephantEdgeLaw", name := "find", desc := "(LElephantEdge;II[J)I" } : Jvm.MethodName) method_26_code (5 : Nat) (Option.some Jvm.ClassFile.FieldType.int) [((0 : Nat), (10 : Nat), (13 : Nat), (52 : Nat)), ((0 : Nat), (10 : Nat), (17 : Nat), (15 : Nat))]) ∈ lw_all := lw_g (lw_at lw_m6 67 rfl) rfl
theorem q1378 : (Jvm.Cond.methodLink "ElephantEdgeLaw" (92 : Nat) ({ cls := "ElephantEdge", name := "find", desc := "(II)I" } : Jvm.MethodName)) ∈ lw_all := lw_g (lw_at lw_m6 68 rfl) rfl
theorem q1389 : (Jvm.Cond.methodLink "ElephantEdgeLaw" (252 : Nat) ({ cls := "ElephantEdgeLaw", name := "harm", desc := "(LElephantEdge;IIII[J)I" } : Jvm.MethodName)) ∈ lw_all := lw_g (lw_at lw_m6 79 rfl) rfl
theorem q1390 : (Jvm.Cond.static ({ cls := "ElephantEdgeLaw", name := "harm", desc := "(LElephantEdge;IIII[J)I" } : Jvm.MethodName)) ∈ lw_all := lw_g (lw_at lw_m6 80 rfl) rfl
theorem q1391 : (Jvm.Cond.codeWith ({ cls := "ElephantEdgeLaw", name := "harm", desc := "(LElephantEdge;IIII[J)I" } : Jvm.MethodName) method_27_code (7 : Nat) (Option.some Jvm.ClassFile.FieldType.int) [((0 : Nat), (14 : Nat), (17 : Nat), (15 : Nat))]) ∈ lw_all := lw_g (lw_at lw_m6 81 rfl) rfl
theorem q1392 : (Jvm.Cond.methodLink "ElephantEdgeLaw" (95 : Nat) ({ cls := "ElephantEdge", name := "harm", desc := "(IIII)I" } : Jvm.MethodName)) ∈ lw_all := lw_g (lw_at lw_m6 82 rfl) rfl
theorem q1402 : (Jvm.Cond.methodLink "ElephantEdgeLaw" (255 : Nat) ({ cls := "ElephantEdgeLaw", name := "fund", desc := "(LElephantEdge;I[J)I" } : Jvm.MethodName)) ∈ lw_all := lw_g (lw_at lw_m6 92 rfl) rfl
theorem q1403 : (Jvm.Cond.static ({ cls := "ElephantEdgeLaw", name := "fund", desc := "(LElephantEdge;I[J)I" } : Jvm.MethodName)) ∈ lw_all := lw_g (lw_at lw_m6 93 rfl) rfl
theorem q1404 : (Jvm.Cond.codeWith ({ cls := "ElephantEdgeLaw", name := "fund", desc := "(LElephantEdge;I[J)I" } : Jvm.MethodName) method_28_code (4 : Nat) (Option.some Jvm.ClassFile.FieldType.int) [((0 : Nat), (9 : Nat), (12 : Nat), (15 : Nat))]) ∈ lw_all := lw_g (lw_at lw_m6 94 rfl) rfl
theorem q1405 : (Jvm.Cond.methodLink "ElephantEdgeLaw" (98 : Nat) ({ cls := "ElephantEdge", name := "fund", desc := "(I)I" } : Jvm.MethodName)) ∈ lw_all := lw_g (lw_at lw_m6 95 rfl) rfl
theorem q1410 : (Jvm.Cond.methodLink "ElephantEdgeLaw" (258 : Nat) ({ cls := "ElephantEdgeLaw", name := "judge", desc := "(LElephantEdge;IIII[J)I" } : Jvm.MethodName)) ∈ lw_all := lw_g (lw_at lw_m6 100 rfl) rfl
theorem q1411 : (Jvm.Cond.static ({ cls := "ElephantEdgeLaw", name := "judge", desc := "(LElephantEdge;IIII[J)I" } : Jvm.MethodName)) ∈ lw_all := lw_g (lw_at lw_m6 101 rfl) rfl
theorem q1412 : (Jvm.Cond.codeWith ({ cls := "ElephantEdgeLaw", name := "judge", desc := "(LElephantEdge;IIII[J)I" } : Jvm.MethodName) method_29_code (7 : Nat) (Option.some Jvm.ClassFile.FieldType.int) [((0 : Nat), (14 : Nat), (17 : Nat), (52 : Nat)), ((0 : Nat), (14 : Nat), (21 : Nat), (15 : Nat))]) ∈ lw_all := lw_g (lw_at lw_m6 102 rfl) rfl
theorem q1413 : (Jvm.Cond.methodLink "ElephantEdgeLaw" (101 : Nat) ({ cls := "ElephantEdge", name := "judge", desc := "(IIII)I" } : Jvm.MethodName)) ∈ lw_all := lw_g (lw_at lw_m6 103 rfl) rfl
theorem q1479 : (Jvm.Cond.methodLink "ElephantEdgeLaw" (261 : Nat) ({ cls := "ElephantEdgeLaw", name := "claim", desc := "(LElephantEdge;II[J)I" } : Jvm.MethodName)) ∈ lw_all := lw_g (lw_at lw_m6 169 rfl) rfl
theorem q1480 : (Jvm.Cond.static ({ cls := "ElephantEdgeLaw", name := "claim", desc := "(LElephantEdge;II[J)I" } : Jvm.MethodName)) ∈ lw_all := lw_g (lw_at lw_m6 170 rfl) rfl
theorem q1481 : (Jvm.Cond.codeWith ({ cls := "ElephantEdgeLaw", name := "claim", desc := "(LElephantEdge;II[J)I" } : Jvm.MethodName) method_30_code (5 : Nat) (Option.some Jvm.ClassFile.FieldType.int) [((0 : Nat), (10 : Nat), (13 : Nat), (52 : Nat)), ((0 : Nat), (10 : Nat), (17 : Nat), (15 : Nat))]) ∈ lw_all := lw_g (lw_at lw_m6 171 rfl) rfl
theorem q1482 : (Jvm.Cond.methodLink "ElephantEdgeLaw" (104 : Nat) ({ cls := "ElephantEdge", name := "claim", desc := "(II)I" } : Jvm.MethodName)) ∈ lw_all := lw_g (lw_at lw_m6 172 rfl) rfl
theorem q1486 : (Jvm.Cond.methodLink "ElephantEdgeLaw" (264 : Nat) ({ cls := "ElephantEdgeLaw", name := "fix", desc := "(LElephantEdge;III[J)I" } : Jvm.MethodName)) ∈ lw_all := lw_g (lw_at lw_m6 176 rfl) rfl
theorem q1487 : (Jvm.Cond.static ({ cls := "ElephantEdgeLaw", name := "fix", desc := "(LElephantEdge;III[J)I" } : Jvm.MethodName)) ∈ lw_all := lw_g (lw_at lw_m6 177 rfl) rfl
theorem q1488 : (Jvm.Cond.codeWith ({ cls := "ElephantEdgeLaw", name := "fix", desc := "(LElephantEdge;III[J)I" } : Jvm.MethodName) method_31_code (6 : Nat) (Option.some Jvm.ClassFile.FieldType.int) [((0 : Nat), (12 : Nat), (15 : Nat), (52 : Nat)), ((0 : Nat), (12 : Nat), (19 : Nat), (13 : Nat)), ((0 : Nat), (12 : Nat), (23 : Nat), (15 : Nat))]) ∈ lw_all := lw_g (lw_at lw_m6 178 rfl) rfl
theorem q1489 : (Jvm.Cond.methodLink "ElephantEdgeLaw" (107 : Nat) ({ cls := "ElephantEdge", name := "fix", desc := "(III)I" } : Jvm.MethodName)) ∈ lw_all := lw_g (lw_at lw_m6 179 rfl) rfl
theorem q1514 : (Jvm.Cond.methodLink "ElephantEdgeLaw" (267 : Nat) ({ cls := "ElephantEdgeLaw", name := "mayBe", desc := "(LElephantEdge;III[J)I" } : Jvm.MethodName)) ∈ lw_all := lw_g (lw_at lw_m6 204 rfl) rfl
theorem q1515 : (Jvm.Cond.static ({ cls := "ElephantEdgeLaw", name := "mayBe", desc := "(LElephantEdge;III[J)I" } : Jvm.MethodName)) ∈ lw_all := lw_g (lw_at lw_m6 205 rfl) rfl
theorem q1516 : (Jvm.Cond.codeWith ({ cls := "ElephantEdgeLaw", name := "mayBe", desc := "(LElephantEdge;III[J)I" } : Jvm.MethodName) method_32_code (6 : Nat) (Option.some Jvm.ClassFile.FieldType.int) [((0 : Nat), (19 : Nat), (22 : Nat), (52 : Nat)), ((0 : Nat), (19 : Nat), (26 : Nat), (13 : Nat)), ((0 : Nat), (19 : Nat), (30 : Nat), (15 : Nat))]) ∈ lw_all := lw_g (lw_at lw_m6 206 rfl) rfl
theorem q1517 : (Jvm.Cond.methodLink "ElephantEdgeLaw" (110 : Nat) ({ cls := "ElephantEdge", name := "mayBe", desc := "(III)Z" } : Jvm.MethodName)) ∈ lw_all := lw_g (lw_at lw_m6 207 rfl) rfl
theorem q1521 : (Jvm.Cond.methodLink "ElephantEdgeLaw" (270 : Nat) ({ cls := "ElephantEdgeLaw", name := "spots", desc := "(LElephantEdge;II[J)I" } : Jvm.MethodName)) ∈ lw_all := lw_g (lw_at lw_m6 211 rfl) rfl
theorem q1522 : (Jvm.Cond.static ({ cls := "ElephantEdgeLaw", name := "spots", desc := "(LElephantEdge;II[J)I" } : Jvm.MethodName)) ∈ lw_all := lw_g (lw_at lw_m6 212 rfl) rfl
theorem q1523 : (Jvm.Cond.codeWith ({ cls := "ElephantEdgeLaw", name := "spots", desc := "(LElephantEdge;II[J)I" } : Jvm.MethodName) method_33_code (5 : Nat) (Option.some Jvm.ClassFile.FieldType.int) [((0 : Nat), (10 : Nat), (13 : Nat), (52 : Nat)), ((0 : Nat), (10 : Nat), (17 : Nat), (15 : Nat))]) ∈ lw_all := lw_g (lw_at lw_m6 213 rfl) rfl
theorem q1524 : (Jvm.Cond.methodLink "ElephantEdgeLaw" (114 : Nat) ({ cls := "ElephantEdge", name := "spots", desc := "(II)I" } : Jvm.MethodName)) ∈ lw_all := lw_g (lw_at lw_m6 214 rfl) rfl
theorem q1528 : (Jvm.Cond.methodLink "ElephantEdgeLaw" (273 : Nat) ({ cls := "ElephantEdgeLaw", name := "wire", desc := "(LElephantEdge;III[J)I" } : Jvm.MethodName)) ∈ lw_all := lw_g (lw_at lw_m6 218 rfl) rfl
theorem q1529 : (Jvm.Cond.static ({ cls := "ElephantEdgeLaw", name := "wire", desc := "(LElephantEdge;III[J)I" } : Jvm.MethodName)) ∈ lw_all := lw_g (lw_at lw_m6 219 rfl) rfl
theorem q1530 : (Jvm.Cond.codeWith ({ cls := "ElephantEdgeLaw", name := "wire", desc := "(LElephantEdge;III[J)I" } : Jvm.MethodName) method_34_code (6 : Nat) (Option.some Jvm.ClassFile.FieldType.int) [((0 : Nat), (12 : Nat), (15 : Nat), (13 : Nat)), ((0 : Nat), (12 : Nat), (19 : Nat), (15 : Nat))]) ∈ lw_all := lw_g (lw_at lw_m6 220 rfl) rfl
theorem q1531 : (Jvm.Cond.methodLink "ElephantEdgeLaw" (117 : Nat) ({ cls := "ElephantEdge", name := "wire", desc := "(III)I" } : Jvm.MethodName)) ∈ lw_all := lw_g (lw_at lw_m6 221 rfl) rfl
theorem q1554 : (Jvm.Cond.methodLink "ElephantEdgeLaw" (276 : Nat) ({ cls := "ElephantEdgeLaw", name := "wind", desc := "(LElephantEdge;II[J)I" } : Jvm.MethodName)) ∈ lw_all := lw_g (lw_at lw_m7 4 rfl) rfl
theorem q1555 : (Jvm.Cond.static ({ cls := "ElephantEdgeLaw", name := "wind", desc := "(LElephantEdge;II[J)I" } : Jvm.MethodName)) ∈ lw_all := lw_g (lw_at lw_m7 5 rfl) rfl
theorem q1556 : (Jvm.Cond.codeWith ({ cls := "ElephantEdgeLaw", name := "wind", desc := "(LElephantEdge;II[J)I" } : Jvm.MethodName) method_35_code (5 : Nat) (Option.some Jvm.ClassFile.FieldType.int) [((0 : Nat), (10 : Nat), (13 : Nat), (15 : Nat))]) ∈ lw_all := lw_g (lw_at lw_m7 6 rfl) rfl
theorem q1557 : (Jvm.Cond.methodLink "ElephantEdgeLaw" (120 : Nat) ({ cls := "ElephantEdge", name := "wind", desc := "(II)I" } : Jvm.MethodName)) ∈ lw_all := lw_g (lw_at lw_m7 7 rfl) rfl
theorem q1565 : (Jvm.Cond.methodLink "ElephantEdgeLaw" (279 : Nat) ({ cls := "ElephantEdgeLaw", name := "trip", desc := "(LElephantEdge;II[J)I" } : Jvm.MethodName)) ∈ lw_all := lw_g (lw_at lw_m7 15 rfl) rfl
theorem q1566 : (Jvm.Cond.static ({ cls := "ElephantEdgeLaw", name := "trip", desc := "(LElephantEdge;II[J)I" } : Jvm.MethodName)) ∈ lw_all := lw_g (lw_at lw_m7 16 rfl) rfl
theorem q1567 : (Jvm.Cond.codeWith ({ cls := "ElephantEdgeLaw", name := "trip", desc := "(LElephantEdge;II[J)I" } : Jvm.MethodName) method_36_code (5 : Nat) (Option.some Jvm.ClassFile.FieldType.int) [((0 : Nat), (10 : Nat), (13 : Nat), (52 : Nat)), ((0 : Nat), (10 : Nat), (17 : Nat), (15 : Nat))]) ∈ lw_all := lw_g (lw_at lw_m7 17 rfl) rfl
theorem q1568 : (Jvm.Cond.methodLink "ElephantEdgeLaw" (123 : Nat) ({ cls := "ElephantEdge", name := "trip", desc := "(II)I" } : Jvm.MethodName)) ∈ lw_all := lw_g (lw_at lw_m7 18 rfl) rfl
theorem q1591 : (Jvm.Cond.methodLink "ElephantEdgeLaw" (282 : Nat) ({ cls := "ElephantEdgeLaw", name := "cause", desc := "(LElephantEdge;I[J)I" } : Jvm.MethodName)) ∈ lw_all := lw_g (lw_at lw_m7 41 rfl) rfl
theorem q1592 : (Jvm.Cond.static ({ cls := "ElephantEdgeLaw", name := "cause", desc := "(LElephantEdge;I[J)I" } : Jvm.MethodName)) ∈ lw_all := lw_g (lw_at lw_m7 42 rfl) rfl
theorem q1593 : (Jvm.Cond.codeWith ({ cls := "ElephantEdgeLaw", name := "cause", desc := "(LElephantEdge;I[J)I" } : Jvm.MethodName) method_37_code (4 : Nat) (Option.some Jvm.ClassFile.FieldType.int) [((0 : Nat), (9 : Nat), (12 : Nat), (52 : Nat))]) ∈ lw_all := lw_g (lw_at lw_m7 43 rfl) rfl
theorem q1594 : (Jvm.Cond.methodLink "ElephantEdgeLaw" (126 : Nat) ({ cls := "ElephantEdge", name := "cause", desc := "(I)I" } : Jvm.MethodName)) ∈ lw_all := lw_g (lw_at lw_m7 44 rfl) rfl
theorem q1606 : (Jvm.Cond.methodLink "ElephantEdgeLaw" (285 : Nat) ({ cls := "ElephantEdgeLaw", name := "causes", desc := "(LElephantEdge;II[J)I" } : Jvm.MethodName)) ∈ lw_all := lw_g (lw_at lw_m7 56 rfl) rfl
theorem q1607 : (Jvm.Cond.static ({ cls := "ElephantEdgeLaw", name := "causes", desc := "(LElephantEdge;II[J)I" } : Jvm.MethodName)) ∈ lw_all := lw_g (lw_at lw_m7 57 rfl) rfl
theorem q1608 : (Jvm.Cond.codeWith ({ cls := "ElephantEdgeLaw", name := "causes", desc := "(LElephantEdge;II[J)I" } : Jvm.MethodName) method_38_code (5 : Nat) (Option.some Jvm.ClassFile.FieldType.int) [((0 : Nat), (10 : Nat), (13 : Nat), (52 : Nat)), ((0 : Nat), (10 : Nat), (17 : Nat), (15 : Nat))]) ∈ lw_all := lw_g (lw_at lw_m7 58 rfl) rfl
theorem q1609 : (Jvm.Cond.methodLink "ElephantEdgeLaw" (129 : Nat) ({ cls := "ElephantEdge", name := "causes", desc := "(II)I" } : Jvm.MethodName)) ∈ lw_all := lw_g (lw_at lw_m7 59 rfl) rfl
theorem q1613 : (Jvm.Cond.methodLink "ElephantEdgeLaw" (288 : Nat) ({ cls := "ElephantEdgeLaw", name := "called", desc := "(LElephantEdge;II[J)I" } : Jvm.MethodName)) ∈ lw_all := lw_g (lw_at lw_m7 63 rfl) rfl
theorem q1614 : (Jvm.Cond.static ({ cls := "ElephantEdgeLaw", name := "called", desc := "(LElephantEdge;II[J)I" } : Jvm.MethodName)) ∈ lw_all := lw_g (lw_at lw_m7 64 rfl) rfl
theorem q1615 : (Jvm.Cond.codeWith ({ cls := "ElephantEdgeLaw", name := "called", desc := "(LElephantEdge;II[J)I" } : Jvm.MethodName) method_39_code (5 : Nat) (Option.some Jvm.ClassFile.FieldType.int) [((0 : Nat), (10 : Nat), (13 : Nat), (52 : Nat))]) ∈ lw_all := lw_g (lw_at lw_m7 65 rfl) rfl
theorem q1616 : (Jvm.Cond.methodLink "ElephantEdgeLaw" (132 : Nat) ({ cls := "ElephantEdge", name := "called", desc := "(II)I" } : Jvm.MethodName)) ∈ lw_all := lw_g (lw_at lw_m7 66 rfl) rfl
theorem q1624 : (Jvm.Cond.methodLink "ElephantEdgeLaw" (291 : Nat) ({ cls := "ElephantEdgeLaw", name := "dusk", desc := "(LElephantEdge;III[J)I" } : Jvm.MethodName)) ∈ lw_all := lw_g (lw_at lw_m7 74 rfl) rfl
theorem q1625 : (Jvm.Cond.static ({ cls := "ElephantEdgeLaw", name := "dusk", desc := "(LElephantEdge;III[J)I" } : Jvm.MethodName)) ∈ lw_all := lw_g (lw_at lw_m7 75 rfl) rfl
theorem q1626 : (Jvm.Cond.codeWith ({ cls := "ElephantEdgeLaw", name := "dusk", desc := "(LElephantEdge;III[J)I" } : Jvm.MethodName) method_40_code (6 : Nat) (Option.some Jvm.ClassFile.FieldType.int) [((0 : Nat), (12 : Nat), (15 : Nat), (13 : Nat)), ((0 : Nat), (12 : Nat), (19 : Nat), (15 : Nat))]) ∈ lw_all := lw_g (lw_at lw_m7 76 rfl) rfl
theorem q1627 : (Jvm.Cond.methodLink "ElephantEdgeLaw" (135 : Nat) ({ cls := "ElephantEdge", name := "dusk", desc := "(III)I" } : Jvm.MethodName)) ∈ lw_all := lw_g (lw_at lw_m7 77 rfl) rfl
theorem q1631 : (Jvm.Cond.methodLink "ElephantEdgeLaw" (294 : Nat) ({ cls := "ElephantEdgeLaw", name := "lease", desc := "(LElephantEdge;IZ[J)I" } : Jvm.MethodName)) ∈ lw_all := lw_g (lw_at lw_m7 81 rfl) rfl
theorem q1632 : (Jvm.Cond.static ({ cls := "ElephantEdgeLaw", name := "lease", desc := "(LElephantEdge;IZ[J)I" } : Jvm.MethodName)) ∈ lw_all := lw_g (lw_at lw_m7 82 rfl) rfl
theorem q1633 : (Jvm.Cond.codeWith ({ cls := "ElephantEdgeLaw", name := "lease", desc := "(LElephantEdge;IZ[J)I" } : Jvm.MethodName) method_41_code (5 : Nat) (Option.some Jvm.ClassFile.FieldType.int) [((0 : Nat), (17 : Nat), (20 : Nat), (13 : Nat))]) ∈ lw_all := lw_g (lw_at lw_m7 83 rfl) rfl
theorem q1634 : (Jvm.Cond.methodLink "ElephantEdgeLaw" (138 : Nat) ({ cls := "ElephantEdge", name := "lease", desc := "(IZ)Z" } : Jvm.MethodName)) ∈ lw_all := lw_g (lw_at lw_m7 84 rfl) rfl
theorem q1638 : (Jvm.Cond.methodLink "ElephantEdgeLaw" (297 : Nat) ({ cls := "ElephantEdgeLaw", name := "rent", desc := "(LElephantEdge;II[J)I" } : Jvm.MethodName)) ∈ lw_all := lw_g (lw_at lw_m7 88 rfl) rfl
theorem q1639 : (Jvm.Cond.static ({ cls := "ElephantEdgeLaw", name := "rent", desc := "(LElephantEdge;II[J)I" } : Jvm.MethodName)) ∈ lw_all := lw_g (lw_at lw_m7 89 rfl) rfl
theorem q1640 : (Jvm.Cond.codeWith ({ cls := "ElephantEdgeLaw", name := "rent", desc := "(LElephantEdge;II[J)I" } : Jvm.MethodName) method_42_code (5 : Nat) (Option.some Jvm.ClassFile.FieldType.int) [((0 : Nat), (10 : Nat), (13 : Nat), (13 : Nat)), ((0 : Nat), (10 : Nat), (17 : Nat), (15 : Nat))]) ∈ lw_all := lw_g (lw_at lw_m7 90 rfl) rfl
theorem q1641 : (Jvm.Cond.methodLink "ElephantEdgeLaw" (142 : Nat) ({ cls := "ElephantEdge", name := "rent", desc := "(II)I" } : Jvm.MethodName)) ∈ lw_all := lw_g (lw_at lw_m7 91 rfl) rfl
theorem q1645 : (Jvm.Cond.methodLink "ElephantEdgeLaw" (300 : Nat) ({ cls := "ElephantEdgeLaw", name := "rents", desc := "(LElephantEdge;II[J)I" } : Jvm.MethodName)) ∈ lw_all := lw_g (lw_at lw_m7 95 rfl) rfl
theorem q1646 : (Jvm.Cond.static ({ cls := "ElephantEdgeLaw", name := "rents", desc := "(LElephantEdge;II[J)I" } : Jvm.MethodName)) ∈ lw_all := lw_g (lw_at lw_m7 96 rfl) rfl
theorem q1647 : (Jvm.Cond.codeWith ({ cls := "ElephantEdgeLaw", name := "rents", desc := "(LElephantEdge;II[J)I" } : Jvm.MethodName) method_43_code (5 : Nat) (Option.some Jvm.ClassFile.FieldType.int) [((0 : Nat), (10 : Nat), (13 : Nat), (13 : Nat))]) ∈ lw_all := lw_g (lw_at lw_m7 97 rfl) rfl
theorem q1648 : (Jvm.Cond.methodLink "ElephantEdgeLaw" (145 : Nat) ({ cls := "ElephantEdge", name := "rents", desc := "(II)I" } : Jvm.MethodName)) ∈ lw_all := lw_g (lw_at lw_m7 98 rfl) rfl
theorem q1664 : (Jvm.Cond.methodLink "ElephantEdgeLaw" (303 : Nat) ({ cls := "ElephantEdgeLaw", name := "gap", desc := "(LElephantEdge;III[J)I" } : Jvm.MethodName)) ∈ lw_all := lw_g (lw_at lw_m7 114 rfl) rfl
theorem q1665 : (Jvm.Cond.static ({ cls := "ElephantEdgeLaw", name := "gap", desc := "(LElephantEdge;III[J)I" } : Jvm.MethodName)) ∈ lw_all := lw_g (lw_at lw_m7 115 rfl) rfl
theorem q1666 : (Jvm.Cond.codeWith ({ cls := "ElephantEdgeLaw", name := "gap", desc := "(LElephantEdge;III[J)I" } : Jvm.MethodName) method_44_code (6 : Nat) (Option.some Jvm.ClassFile.FieldType.int) [((0 : Nat), (12 : Nat), (15 : Nat), (13 : Nat))]) ∈ lw_all := lw_g (lw_at lw_m7 116 rfl) rfl
theorem q1667 : (Jvm.Cond.methodLink "ElephantEdgeLaw" (148 : Nat) ({ cls := "ElephantEdge", name := "gap", desc := "(III)I" } : Jvm.MethodName)) ∈ lw_all := lw_g (lw_at lw_m7 117 rfl) rfl
theorem q1671 : (Jvm.Cond.methodLink "ElephantEdgeLaw" (161 : Nat) ({ cls := "ElephantEdgeModel", name := "thrown", desc := "()I" } : Jvm.MethodName)) ∈ lw_all := lw_g (lw_at lw_m7 121 rfl) rfl
theorem q1675 : (Jvm.Cond.classLink "ElephantEdgeLaw" (152 : Nat) "ElephantEdgeModel") ∈ lw_all := lw_g (lw_at lw_m7 125 rfl) rfl
theorem q1677 : (Jvm.Cond.methodLink "ElephantEdgeLaw" (154 : Nat) ({ cls := "ElephantEdgeModel", name := "<init>", desc := "()V" } : Jvm.MethodName)) ∈ lw_all := lw_g (lw_at lw_m7 127 rfl) rfl
theorem q2015 : (Jvm.Cond.methodLink "ElephantEdgeLaw" (160 : Nat) ({ cls := "ElephantEdgeModel", name := "land", desc := "(II)I" } : Jvm.MethodName)) ∈ lw_all := lw_g (lw_at lw_m8 225 rfl) rfl
theorem q2034 : (Jvm.Cond.methodLink "ElephantEdgeLaw" (168 : Nat) ({ cls := "ElephantEdgeModel", name := "field", desc := "(IIII)I" } : Jvm.MethodName)) ∈ lw_all := lw_g (lw_at lw_m9 4 rfl) rfl
theorem q2038 : (Jvm.Cond.methodLink "ElephantEdgeLaw" (172 : Nat) ({ cls := "ElephantEdgeModel", name := "stalks", desc := "(I)I" } : Jvm.MethodName)) ∈ lw_all := lw_g (lw_at lw_m9 8 rfl) rfl
theorem q2042 : (Jvm.Cond.methodLink "ElephantEdgeLaw" (175 : Nat) ({ cls := "ElephantEdgeModel", name := "village", desc := "(II)I" } : Jvm.MethodName)) ∈ lw_all := lw_g (lw_at lw_m9 12 rfl) rfl
theorem q2046 : (Jvm.Cond.methodLink "ElephantEdgeLaw" (178 : Nat) ({ cls := "ElephantEdgeModel", name := "fence", desc := "(IIII)I" } : Jvm.MethodName)) ∈ lw_all := lw_g (lw_at lw_m9 16 rfl) rfl
theorem q2056 : (Jvm.Cond.methodLink "ElephantEdgeLaw" (181 : Nat) ({ cls := "ElephantEdgeModel", name := "fenced", desc := "(II)I" } : Jvm.MethodName)) ∈ lw_all := lw_g (lw_at lw_m9 26 rfl) rfl
theorem q2060 : (Jvm.Cond.methodLink "ElephantEdgeLaw" (184 : Nat) ({ cls := "ElephantEdgeModel", name := "fear", desc := "(I)I" } : Jvm.MethodName)) ∈ lw_all := lw_g (lw_at lw_m9 30 rfl) rfl
theorem q2064 : (Jvm.Cond.methodLink "ElephantEdgeLaw" (189 : Nat) ({ cls := "ElephantEdgeModel", name := "feed", desc := "(IIIII)I" } : Jvm.MethodName)) ∈ lw_all := lw_g (lw_at lw_m9 34 rfl) rfl
theorem q2068 : (Jvm.Cond.methodLink "ElephantEdgeLaw" (192 : Nat) ({ cls := "ElephantEdgeModel", name := "rule", desc := "(I)I" } : Jvm.MethodName)) ∈ lw_all := lw_g (lw_at lw_m9 38 rfl) rfl
theorem q2165 : (Jvm.Cond.methodLink "ElephantEdgeLaw" (195 : Nat) ({ cls := "ElephantEdgeModel", name := "like", desc := "(II)I" } : Jvm.MethodName)) ∈ lw_all := lw_g (lw_at lw_m9 135 rfl) rfl
theorem q2173 : (Jvm.Cond.methodLink "ElephantEdgeLaw" (199 : Nat) ({ cls := "ElephantEdgeModel", name := "herd", desc := "(III)I" } : Jvm.MethodName)) ∈ lw_all := lw_g (lw_at lw_m9 143 rfl) rfl
theorem q2177 : (Jvm.Cond.methodLink "ElephantEdgeLaw" (202 : Nat) ({ cls := "ElephantEdgeModel", name := "cost", desc := "(II)I" } : Jvm.MethodName)) ∈ lw_all := lw_g (lw_at lw_m9 147 rfl) rfl
theorem q2201 : (Jvm.Cond.methodLink "ElephantEdgeLaw" (205 : Nat) ({ cls := "ElephantEdgeModel", name := "way", desc := "(III)I" } : Jvm.MethodName)) ∈ lw_all := lw_g (lw_at lw_m9 171 rfl) rfl
theorem q2213 : (Jvm.Cond.methodLink "ElephantEdgeLaw" (208 : Nat) ({ cls := "ElephantEdgeModel", name := "foretold", desc := "(II)I" } : Jvm.MethodName)) ∈ lw_all := lw_g (lw_at lw_m9 183 rfl) rfl
theorem q2244 : (Jvm.Cond.methodLink "ElephantEdgeLaw" (211 : Nat) ({ cls := "ElephantEdgeModel", name := "pushed", desc := "(III)I" } : Jvm.MethodName)) ∈ lw_all := lw_g (lw_at lw_m9 214 rfl) rfl
theorem q2252 : (Jvm.Cond.methodLink "ElephantEdgeLaw" (214 : Nat) ({ cls := "ElephantEdgeModel", name := "build", desc := "(II)I" } : Jvm.MethodName)) ∈ lw_all := lw_g (lw_at lw_m9 222 rfl) rfl
theorem q2268 : (Jvm.Cond.methodLink "ElephantEdgeLaw" (218 : Nat) ({ cls := "ElephantEdgeModel", name := "night", desc := "()I" } : Jvm.MethodName)) ∈ lw_all := lw_g (lw_at lw_m9 238 rfl) rfl
theorem q2288 : (Jvm.Cond.methodLink "ElephantEdgeLaw" (221 : Nat) ({ cls := "ElephantEdgeModel", name := "debt", desc := "(I)I" } : Jvm.MethodName)) ∈ lw_all := lw_g (lw_at lw_m10 18 rfl) rfl
theorem q2292 : (Jvm.Cond.methodLink "ElephantEdgeLaw" (224 : Nat) ({ cls := "ElephantEdgeModel", name := "watch", desc := "(II)I" } : Jvm.MethodName)) ∈ lw_all := lw_g (lw_at lw_m10 22 rfl) rfl
theorem q2300 : (Jvm.Cond.methodLink "ElephantEdgeLaw" (228 : Nat) ({ cls := "ElephantEdgeModel", name := "turn", desc := "(I)I" } : Jvm.MethodName)) ∈ lw_all := lw_g (lw_at lw_m10 30 rfl) rfl
theorem q2308 : (Jvm.Cond.methodLink "ElephantEdgeLaw" (231 : Nat) ({ cls := "ElephantEdgeModel", name := "watched", desc := "(I)I" } : Jvm.MethodName)) ∈ lw_all := lw_g (lw_at lw_m10 38 rfl) rfl
theorem q2312 : (Jvm.Cond.methodLink "ElephantEdgeLaw" (234 : Nat) ({ cls := "ElephantEdgeModel", name := "post", desc := "(II)I" } : Jvm.MethodName)) ∈ lw_all := lw_g (lw_at lw_m10 42 rfl) rfl
theorem q2320 : (Jvm.Cond.methodLink "ElephantEdgeLaw" (238 : Nat) ({ cls := "ElephantEdgeModel", name := "join", desc := "(IZ)I" } : Jvm.MethodName)) ∈ lw_all := lw_g (lw_at lw_m10 50 rfl) rfl
theorem q2327 : (Jvm.Cond.methodLink "ElephantEdgeLaw" (242 : Nat) ({ cls := "ElephantEdgeModel", name := "away", desc := "(IIZ)Z" } : Jvm.MethodName)) ∈ lw_all := lw_g (lw_at lw_m10 57 rfl) rfl
theorem q2331 : (Jvm.Cond.methodLink "ElephantEdgeLaw" (245 : Nat) ({ cls := "ElephantEdgeModel", name := "rota", desc := "(IIII)I" } : Jvm.MethodName)) ∈ lw_all := lw_g (lw_at lw_m10 61 rfl) rfl
theorem q2358 : (Jvm.Cond.methodLink "ElephantEdgeLaw" (248 : Nat) ({ cls := "ElephantEdgeModel", name := "loads", desc := "(II)I" } : Jvm.MethodName)) ∈ lw_all := lw_g (lw_at lw_m10 88 rfl) rfl
theorem q2362 : (Jvm.Cond.methodLink "ElephantEdgeLaw" (251 : Nat) ({ cls := "ElephantEdgeModel", name := "find", desc := "(II)I" } : Jvm.MethodName)) ∈ lw_all := lw_g (lw_at lw_m10 92 rfl) rfl
theorem q2375 : (Jvm.Cond.methodLink "ElephantEdgeLaw" (254 : Nat) ({ cls := "ElephantEdgeModel", name := "harm", desc := "(IIII)I" } : Jvm.MethodName)) ∈ lw_all := lw_g (lw_at lw_m10 105 rfl) rfl
theorem q2383 : (Jvm.Cond.methodLink "ElephantEdgeLaw" (257 : Nat) ({ cls := "ElephantEdgeModel", name := "fund", desc := "(I)I" } : Jvm.MethodName)) ∈ lw_all := lw_g (lw_at lw_m10 113 rfl) rfl
theorem q2388 : (Jvm.Cond.methodLink "ElephantEdgeLaw" (260 : Nat) ({ cls := "ElephantEdgeModel", name := "judge", desc := "(IIII)I" } : Jvm.MethodName)) ∈ lw_all := lw_g (lw_at lw_m10 118 rfl) rfl
theorem q2402 : (Jvm.Cond.methodLink "ElephantEdgeLaw" (263 : Nat) ({ cls := "ElephantEdgeModel", name := "claim", desc := "(II)I" } : Jvm.MethodName)) ∈ lw_all := lw_g (lw_at lw_m10 132 rfl) rfl
theorem q2406 : (Jvm.Cond.methodLink "ElephantEdgeLaw" (266 : Nat) ({ cls := "ElephantEdgeModel", name := "fix", desc := "(III)I" } : Jvm.MethodName)) ∈ lw_all := lw_g (lw_at lw_m10 136 rfl) rfl
theorem q2418 : (Jvm.Cond.methodLink "ElephantEdgeLaw" (269 : Nat) ({ cls := "ElephantEdgeModel", name := "mayBe", desc := "(III)Z" } : Jvm.MethodName)) ∈ lw_all := lw_g (lw_at lw_m10 148 rfl) rfl
theorem q2426 : (Jvm.Cond.methodLink "ElephantEdgeLaw" (272 : Nat) ({ cls := "ElephantEdgeModel", name := "spots", desc := "(II)I" } : Jvm.MethodName)) ∈ lw_all := lw_g (lw_at lw_m10 156 rfl) rfl
theorem q2430 : (Jvm.Cond.methodLink "ElephantEdgeLaw" (275 : Nat) ({ cls := "ElephantEdgeModel", name := "wire", desc := "(III)I" } : Jvm.MethodName)) ∈ lw_all := lw_g (lw_at lw_m10 160 rfl) rfl
theorem q2434 : (Jvm.Cond.methodLink "ElephantEdgeLaw" (278 : Nat) ({ cls := "ElephantEdgeModel", name := "wind", desc := "(II)I" } : Jvm.MethodName)) ∈ lw_all := lw_g (lw_at lw_m10 164 rfl) rfl
theorem q2442 : (Jvm.Cond.methodLink "ElephantEdgeLaw" (281 : Nat) ({ cls := "ElephantEdgeModel", name := "trip", desc := "(II)I" } : Jvm.MethodName)) ∈ lw_all := lw_g (lw_at lw_m10 172 rfl) rfl
theorem q2446 : (Jvm.Cond.methodLink "ElephantEdgeLaw" (284 : Nat) ({ cls := "ElephantEdgeModel", name := "cause", desc := "(I)I" } : Jvm.MethodName)) ∈ lw_all := lw_g (lw_at lw_m10 176 rfl) rfl
theorem q2454 : (Jvm.Cond.methodLink "ElephantEdgeLaw" (287 : Nat) ({ cls := "ElephantEdgeModel", name := "causes", desc := "(II)I" } : Jvm.MethodName)) ∈ lw_all := lw_g (lw_at lw_m10 184 rfl) rfl
theorem q2458 : (Jvm.Cond.methodLink "ElephantEdgeLaw" (290 : Nat) ({ cls := "ElephantEdgeModel", name := "called", desc := "(II)I" } : Jvm.MethodName)) ∈ lw_all := lw_g (lw_at lw_m10 188 rfl) rfl
theorem q2472 : (Jvm.Cond.methodLink "ElephantEdgeLaw" (293 : Nat) ({ cls := "ElephantEdgeModel", name := "dusk", desc := "(III)I" } : Jvm.MethodName)) ∈ lw_all := lw_g (lw_at lw_m10 202 rfl) rfl
theorem q2476 : (Jvm.Cond.methodLink "ElephantEdgeLaw" (296 : Nat) ({ cls := "ElephantEdgeModel", name := "lease", desc := "(IZ)Z" } : Jvm.MethodName)) ∈ lw_all := lw_g (lw_at lw_m10 206 rfl) rfl
theorem q2480 : (Jvm.Cond.methodLink "ElephantEdgeLaw" (299 : Nat) ({ cls := "ElephantEdgeModel", name := "rent", desc := "(II)I" } : Jvm.MethodName)) ∈ lw_all := lw_g (lw_at lw_m10 210 rfl) rfl
theorem q2484 : (Jvm.Cond.methodLink "ElephantEdgeLaw" (302 : Nat) ({ cls := "ElephantEdgeModel", name := "rents", desc := "(II)I" } : Jvm.MethodName)) ∈ lw_all := lw_g (lw_at lw_m10 214 rfl) rfl
theorem q2496 : (Jvm.Cond.methodLink "ElephantEdgeLaw" (305 : Nat) ({ cls := "ElephantEdgeModel", name := "gap", desc := "(III)I" } : Jvm.MethodName)) ∈ lw_all := lw_g (lw_at lw_m10 226 rfl) rfl
theorem q2504 : (Jvm.Cond.methodLink "ElephantEdgeLaw" (309 : Nat) ({ cls := "ElephantEdgeModel", name := "count", desc := "(I)I" } : Jvm.MethodName)) ∈ lw_all := lw_g (lw_at lw_m10 234 rfl) rfl
/-! ElephantEdge -/
def RX1 : String := "ElephantEdge"
def TX1 : u_T := fun k => match k with
  | 0 => ("ElephantEdge", "tape", "[B", true)
  | 1 => ("ElephantEdge", "land", "LElephantEdge$Land;", true)
  | 2 => ("ElephantEdge", "other", "LElephantEdge$Land;", true)
  | 3 => ("ElephantEdge", "before", "LElephantEdge$Land;", true)
  | 4 => ("ElephantEdge", "ways", "LElephantEdge$Ways;", true)
  | 5 => ("ElephantEdge", "steps", "LElephantEdge$Steps;", true)
  | 6 => ("ElephantEdge", "herds", "Ljava/util/ArrayList;", true)
  | 7 => ("ElephantEdge", "claims", "Ljava/util/ArrayList;", true)
  | 8 => ("ElephantEdge", "wires", "Ljava/util/ArrayList;", true)
  | 9 => ("ElephantEdge", "trips", "Ljava/util/ArrayList;", true)
  | 10 => ("ElephantEdge", "villageOf", "[I", true)
  | 11 => ("ElephantEdge", "watchers", "[I", true)
  | 12 => ("ElephantEdge", "watchCells", "[I", true)
  | 13 => ("ElephantEdge", "watchedNights", "[I", true)
  | 14 => ("ElephantEdge", "ripe", "[I", true)
  | 15 => ("ElephantEdge", "debts", "[I", true)
  | 16 => ("ElephantEdge", "rents", "[I", true)
  | 17 => ("ElephantEdge", "windHour", "[I", true)
  | 18 => ("ElephantEdge", "windForce", "[I", true)
  | 19 => ("ElephantEdge", "told", "[I", true)
  | 20 => ("ElephantEdge", "gapRow", "[I", true)
  | 21 => ("ElephantEdge", "calledRow", "[I", true)
  | 22 => ("ElephantEdge", "losses", "[I", false)
  | 23 => ("ElephantEdge", "foretoldLosses", "[I", true)
  | 24 => ("ElephantEdge", "nightLosses", "[I", true)
  | 25 => ("ElephantEdge", "watchedLast", "[Z", true)
  | 26 => ("ElephantEdge", "joins", "[Z", true)
  | 27 => ("ElephantEdge", "isLeased", "[Z", true)
  | 28 => ("ElephantEdge", "mayBe", "[Z", true)
  | 29 => ("ElephantEdge", "isShut", "[Z", true)
  | 30 => ("ElephantEdge", "awayIn", "[[Z", true)
  | 31 => ("ElephantEdge", "rule", "LElephantEdge$Rule;", false)
  | 32 => ("ElephantEdge", "taped", "I", false)
  | 33 => ("ElephantEdge", "night", "I", false)
  | 34 => ("ElephantEdge", "watches", "I", false)
  | 35 => ("ElephantEdge", "fund", "I", false)
  | 36 => ("ElephantEdge", "found", "I", false)
  | 37 => ("ElephantEdge", "winds", "I", false)
  | _ => ("ElephantEdge", "gaps", "I", false)
def tyX1 : Nat → FieldType := fun k => match k with
  | 0 => .array .byte
  | 1 => .object "ElephantEdge$Land"
  | 2 => .object "ElephantEdge$Land"
  | 3 => .object "ElephantEdge$Land"
  | 4 => .object "ElephantEdge$Ways"
  | 5 => .object "ElephantEdge$Steps"
  | 6 => .object "java/util/ArrayList"
  | 7 => .object "java/util/ArrayList"
  | 8 => .object "java/util/ArrayList"
  | 9 => .object "java/util/ArrayList"
  | 10 => .array .int
  | 11 => .array .int
  | 12 => .array .int
  | 13 => .array .int
  | 14 => .array .int
  | 15 => .array .int
  | 16 => .array .int
  | 17 => .array .int
  | 18 => .array .int
  | 19 => .array .int
  | 20 => .array .int
  | 21 => .array .int
  | 22 => .array .int
  | 23 => .array .int
  | 24 => .array .int
  | 25 => .array .boolean
  | 26 => .array .boolean
  | 27 => .array .boolean
  | 28 => .array .boolean
  | 29 => .array .boolean
  | 30 => .array (.array .boolean)
  | 31 => .object "ElephantEdge$Rule"
  | 32 => .int
  | 33 => .int
  | 34 => .int
  | 35 => .int
  | 36 => .int
  | 37 => .int
  | _ => .int
abbrev wsX10 : List Cond := u_ws RX1 TX1 39
set_option maxRecDepth 100000 in
theorem nmX1 : ∀ a, a < 39 → ∀ b, b < 39 → a ≠ b → (TX1 a).2.1 ≠ (TX1 b).2.1 := by decide +kernel
set_option maxRecDepth 100000 in
theorem tyX1_ok : ∀ k, k < 39 → parseFieldDescriptor (TX1 k).2.2.1 = some (tyX1 k) := by decide +kernel
abbrev cX1_init : ByteArray := prog_1_method_7_code
def yX1_init : MethodName := ⟨RX1, "<init>", "()V"⟩
abbrev cX1_feed : ByteArray := prog_1_method_23_code
def yX1_feed : MethodName := ⟨RX1, "feed", "(IIIII)I"⟩
abbrev cX1_night : ByteArray := prog_1_method_39_code
def yX1_night : MethodName := ⟨RX1, "night", "()I"⟩
abbrev cX1_watch : ByteArray := prog_1_method_31_code
def yX1_watch : MethodName := ⟨RX1, "watch", "(LElephantEdge$Land;)V"⟩
abbrev cX1_next : ByteArray := prog_1_method_4_code
def yX1_next : MethodName := ⟨RX1, "next", "(II)I"⟩
abbrev cX1_comes : ByteArray := prog_1_method_30_code
def yX1_comes : MethodName := ⟨RX1, "comes", "(LElephantEdge$Land;I)I"⟩
abbrev cX1_goes : ByteArray := prog_1_method_32_code
def yX1_goes : MethodName := ⟨RX1, "goes", "(LElephantEdge$Land;LElephantEdge$Herd;I)I"⟩
abbrev cX1_harms : ByteArray := prog_1_method_33_code
def yX1_harms : MethodName := ⟨RX1, "harms", "(LElephantEdge$Land;II)I"⟩
abbrev cX1_foretells : ByteArray := prog_1_method_34_code
def yX1_foretells : MethodName := ⟨RX1, "foretells", "(I)I"⟩
abbrev cX1_isTold : ByteArray := prog_1_method_41_code
def yX1_isTold : MethodName := ⟨RX1, "isTold", "(I)Z"⟩
abbrev cX1_turn : ByteArray := prog_1_method_44_code
def yX1_turn : MethodName := ⟨RX1, "turn", "(I)I"⟩
abbrev cX1_mayTurn : ByteArray := prog_1_method_43_code
def yX1_mayTurn : MethodName := ⟨RX1, "mayTurn", "(I)Z"⟩
abbrev cX1_count : ByteArray := prog_1_method_84_code
def yX1_count : MethodName := ⟨RX1, "count", "(I)I"⟩
abbrev cX1_joined : ByteArray := prog_1_method_47_code
def yX1_joined : MethodName := ⟨RX1, "joined", "()I"⟩
abbrev cX1_land : ByteArray := prog_1_method_16_code
def yX1_land : MethodName := ⟨RX1, "land", "(II)I"⟩
abbrev cX1_cell : ByteArray := prog_1_method_10_code
def yX1_cell : MethodName := ⟨RX1, "cell", "(I)V"⟩
abbrev cX1_in : ByteArray := prog_1_method_9_code
def yX1_in : MethodName := ⟨RX1, "in", "(III)Z"⟩
abbrev cX1_wrong : ByteArray := prog_1_method_8_code
def yX1_wrong : MethodName := ⟨RX1, "wrong", "(Z)V"⟩
abbrev cX1_isHerds : ByteArray := prog_1_method_15_code
def yX1_isHerds : MethodName := ⟨RX1, "isHerds", "(I)Z"⟩
abbrev cX1_was : ByteArray := prog_1_method_14_code
def yX1_was : MethodName := ⟨RX1, "was", "(II)I"⟩
abbrev cX1_field : ByteArray := prog_1_method_17_code
def yX1_field : MethodName := ⟨RX1, "field", "(IIII)I"⟩
abbrev cX1_family : ByteArray := prog_1_method_12_code
def yX1_family : MethodName := ⟨RX1, "family", "(I)V"⟩
abbrev cX1_stalks : ByteArray := prog_1_method_18_code
def yX1_stalks : MethodName := ⟨RX1, "stalks", "(I)I"⟩
abbrev cX1_village : ByteArray := prog_1_method_19_code
def yX1_village : MethodName := ⟨RX1, "village", "(II)I"⟩
abbrev cX1_fence : ByteArray := prog_1_method_20_code
def yX1_fence : MethodName := ⟨RX1, "fence", "(IIII)I"⟩
abbrev cX1_edge : ByteArray := prog_1_method_11_code
def yX1_edge : MethodName := ⟨RX1, "edge", "(II)V"⟩
abbrev cX1_isBeside : ByteArray := prog_1_method_5_code
def yX1_isBeside : MethodName := ⟨RX1, "isBeside", "(II)Z"⟩
abbrev cX1_fenced : ByteArray := prog_1_method_21_code
def yX1_fenced : MethodName := ⟨RX1, "fenced", "(II)I"⟩
abbrev cX1_fear : ByteArray := prog_1_method_22_code
def yX1_fear : MethodName := ⟨RX1, "fear", "(I)I"⟩
abbrev cX1_rule : ByteArray := prog_1_method_24_code
def yX1_rule : MethodName := ⟨RX1, "rule", "(I)I"⟩
abbrev cX1_cropName : ByteArray := prog_1_method_2_code
def yX1_cropName : MethodName := ⟨RX1, "cropName", "(I)Ljava/lang/String;"⟩
abbrev cX1_isDigit : ByteArray := prog_1_method_1_code
def yX1_isDigit : MethodName := ⟨RX1, "isDigit", "(I)Z"⟩
abbrev cX1_toldName : ByteArray := prog_1_method_3_code
def yX1_toldName : MethodName := ⟨RX1, "toldName", "(I)Ljava/lang/String;"⟩
abbrev cX1_like : ByteArray := prog_1_method_25_code
def yX1_like : MethodName := ⟨RX1, "like", "(II)I"⟩
abbrev cX1_herd : ByteArray := prog_1_method_26_code
def yX1_herd : MethodName := ⟨RX1, "herd", "(III)I"⟩
abbrev cX1_cost : ByteArray := prog_1_method_28_code
def yX1_cost : MethodName := ⟨RX1, "cost", "(II)I"⟩
abbrev cX1_herdAt : ByteArray := prog_1_method_27_code
def yX1_herdAt : MethodName := ⟨RX1, "herdAt", "(I)LElephantEdge$Herd;"⟩
abbrev cX1_way : ByteArray := prog_1_method_29_code
def yX1_way : MethodName := ⟨RX1, "way", "(III)I"⟩
abbrev cX1_foretold : ByteArray := prog_1_method_36_code
def yX1_foretold : MethodName := ⟨RX1, "foretold", "(II)I"⟩
abbrev cX1_some : ByteArray := prog_1_method_35_code
def yX1_some : MethodName := ⟨RX1, "some", "(I)V"⟩
abbrev cX1_pushed : ByteArray := prog_1_method_37_code
def yX1_pushed : MethodName := ⟨RX1, "pushed", "(III)I"⟩
abbrev cX1_build : ByteArray := prog_1_method_38_code
def yX1_build : MethodName := ⟨RX1, "build", "(II)I"⟩
abbrev cX1_debt : ByteArray := prog_1_method_40_code
def yX1_debt : MethodName := ⟨RX1, "debt", "(I)I"⟩
abbrev cX1_watch_2 : ByteArray := prog_1_method_42_code
def yX1_watch_2 : MethodName := ⟨RX1, "watch", "(II)I"⟩
abbrev cX1_watched : ByteArray := prog_1_method_45_code
def yX1_watched : MethodName := ⟨RX1, "watched", "(I)I"⟩
abbrev cX1_post : ByteArray := prog_1_method_46_code
def yX1_post : MethodName := ⟨RX1, "post", "(II)I"⟩
abbrev cX1_join : ByteArray := prog_1_method_48_code
def yX1_join : MethodName := ⟨RX1, "join", "(IZ)I"⟩
abbrev cX1_away : ByteArray := prog_1_method_50_code
def yX1_away : MethodName := ⟨RX1, "away", "(IIZ)Z"⟩
abbrev cX1_rota : ByteArray := prog_1_method_52_code
def yX1_rota : MethodName := ⟨RX1, "rota", "(IIII)I"⟩
abbrev cX1_nights : ByteArray := prog_1_method_51_code
def yX1_nights : MethodName := ⟨RX1, "nights", "(II)V"⟩
abbrev cX1_isAway : ByteArray := prog_1_method_49_code
def yX1_isAway : MethodName := ⟨RX1, "isAway", "(II)Z"⟩
abbrev cX1_loads : ByteArray := prog_1_method_53_code
def yX1_loads : MethodName := ⟨RX1, "loads", "(II)I"⟩
abbrev cX1_find : ByteArray := prog_1_method_55_code
def yX1_find : MethodName := ⟨RX1, "find", "(II)I"⟩
abbrev cX1_claimAt : ByteArray := prog_1_method_54_code
def yX1_claimAt : MethodName := ⟨RX1, "claimAt", "(I)LElephantEdge$Claim;"⟩
abbrev cX1_harm : ByteArray := prog_1_method_56_code
def yX1_harm : MethodName := ⟨RX1, "harm", "(IIII)I"⟩
abbrev cX1_fund : ByteArray := prog_1_method_57_code
def yX1_fund : MethodName := ⟨RX1, "fund", "(I)I"⟩
abbrev cX1_judge : ByteArray := prog_1_method_58_code
def yX1_judge : MethodName := ⟨RX1, "judge", "(IIII)I"⟩
abbrev cX1_claim : ByteArray := prog_1_method_59_code
def yX1_claim : MethodName := ⟨RX1, "claim", "(II)I"⟩
abbrev cX1_fix : ByteArray := prog_1_method_63_code
def yX1_fix : MethodName := ⟨RX1, "fix", "(III)I"⟩
abbrev cX1_hour : ByteArray := prog_1_method_13_code
def yX1_hour : MethodName := ⟨RX1, "hour", "(I)V"⟩
abbrev cX1_places : ByteArray := prog_1_method_61_code
def yX1_places : MethodName := ⟨RX1, "places", "(LElephantEdge$Herd;I)V"⟩
abbrev cX1_near : ByteArray := prog_1_method_62_code
def yX1_near : MethodName := ⟨RX1, "near", "(II)V"⟩
abbrev cX1_rivers : ByteArray := prog_1_method_60_code
def yX1_rivers : MethodName := ⟨RX1, "rivers", "()V"⟩
abbrev cX1_mayBe : ByteArray := prog_1_method_64_code
def yX1_mayBe : MethodName := ⟨RX1, "mayBe", "(III)Z"⟩
abbrev cX1_spots : ByteArray := prog_1_method_65_code
def yX1_spots : MethodName := ⟨RX1, "spots", "(II)I"⟩
abbrev cX1_wire : ByteArray := prog_1_method_66_code
def yX1_wire : MethodName := ⟨RX1, "wire", "(III)I"⟩
abbrev cX1_wind : ByteArray := prog_1_method_68_code
def yX1_wind : MethodName := ⟨RX1, "wind", "(II)I"⟩
abbrev cX1_windOf : ByteArray := prog_1_method_67_code
def yX1_windOf : MethodName := ⟨RX1, "windOf", "(I)I"⟩
abbrev cX1_trip : ByteArray := prog_1_method_71_code
def yX1_trip : MethodName := ⟨RX1, "trip", "(II)I"⟩
abbrev cX1_wireAt : ByteArray := prog_1_method_69_code
def yX1_wireAt : MethodName := ⟨RX1, "wireAt", "(I)LElephantEdge$Wire;"⟩
abbrev cX1_cause : ByteArray := prog_1_method_73_code
def yX1_cause : MethodName := ⟨RX1, "cause", "(I)I"⟩
abbrev cX1_tripAt : ByteArray := prog_1_method_70_code
def yX1_tripAt : MethodName := ⟨RX1, "tripAt", "(I)LElephantEdge$Trip;"⟩
abbrev cX1_causeOf : ByteArray := prog_1_method_72_code
def yX1_causeOf : MethodName := ⟨RX1, "causeOf", "(LElephantEdge$Trip;)I"⟩
abbrev cX1_causes : ByteArray := prog_1_method_74_code
def yX1_causes : MethodName := ⟨RX1, "causes", "(II)I"⟩
abbrev cX1_called : ByteArray := prog_1_method_75_code
def yX1_called : MethodName := ⟨RX1, "called", "(II)I"⟩
abbrev cX1_apart : ByteArray := prog_1_method_6_code
def yX1_apart : MethodName := ⟨RX1, "apart", "(II)I"⟩
abbrev cX1_dusk : ByteArray := prog_1_method_76_code
def yX1_dusk : MethodName := ⟨RX1, "dusk", "(III)I"⟩
abbrev cX1_lease : ByteArray := prog_1_method_77_code
def yX1_lease : MethodName := ⟨RX1, "lease", "(IZ)Z"⟩
abbrev cX1_rent : ByteArray := prog_1_method_78_code
def yX1_rent : MethodName := ⟨RX1, "rent", "(II)I"⟩
abbrev cX1_rents : ByteArray := prog_1_method_82_code
def yX1_rents : MethodName := ⟨RX1, "rents", "(II)I"⟩
abbrev cX1_opens : ByteArray := prog_1_method_80_code
def yX1_opens : MethodName := ⟨RX1, "opens", "(II)I"⟩
abbrev cX1_weight : ByteArray := prog_1_method_79_code
def yX1_weight : MethodName := ⟨RX1, "weight", "(I)I"⟩
abbrev cX1_onward : ByteArray := prog_1_method_81_code
def yX1_onward : MethodName := ⟨RX1, "onward", "([III)I"⟩
abbrev cX1_gap : ByteArray := prog_1_method_83_code
def yX1_gap : MethodName := ⟨RX1, "gap", "(III)I"⟩
theorem q111 : (Jvm.Cond.initialized "ElephantEdge") ∈ lw_all := lw_g (lw_at lw_m1 1 rfl) rfl
theorem q154 : (Jvm.Cond.instantiable "ElephantEdge" (39 : Nat)) ∈ lw_all := lw_g (lw_at lw_m1 44 rfl) rfl
theorem q156 : (Jvm.Cond.instanceMethod ({ cls := "ElephantEdge", name := "<init>", desc := "()V" } : Jvm.MethodName)) ∈ lw_all := lw_g (lw_at lw_m1 46 rfl) rfl
theorem q157 : (Jvm.Cond.code ({ cls := "ElephantEdge", name := "<init>", desc := "()V" } : Jvm.MethodName) prog_1_method_7_code (2 : Nat) (Option.none : Option Jvm.ClassFile.FieldType)) ∈ lw_all := lw_g (lw_at lw_m1 47 rfl) rfl
theorem q158 : (Jvm.Cond.methodLink "ElephantEdge" (31 : Nat) ({ cls := "java/lang/Object", name := "<init>", desc := "()V" } : Jvm.MethodName)) ∈ lw_all := lw_g (lw_at lw_m1 48 rfl) rfl
theorem q161 : (Jvm.Cond.classLink "ElephantEdge" (41 : Nat) "ElephantEdge$Land") ∈ lw_all := lw_g (lw_at lw_m1 51 rfl) rfl
theorem q163 : (Jvm.Cond.methodLinkNest "ElephantEdge" (43 : Nat) ({ cls := "ElephantEdge$Land", name := "<init>", desc := "()V" } : Jvm.MethodName) "ElephantEdge") ∈ lw_tbl := lw_at lw_m1 53 rfl
theorem q168 : (Jvm.Cond.fieldLinkNest "ElephantEdge" (183 : Nat) "ElephantEdge$Land" "kind" "[I" "ElephantEdge") ∈ lw_tbl := lw_at lw_m1 58 rfl
theorem q170 : (Jvm.Cond.fieldLinkNest "ElephantEdge" (222 : Nat) "ElephantEdge$Land" "family" "[I" "ElephantEdge") ∈ lw_tbl := lw_at lw_m1 60 rfl
theorem q172 : (Jvm.Cond.fieldLinkNest "ElephantEdge" (224 : Nat) "ElephantEdge$Land" "crop" "[I" "ElephantEdge") ∈ lw_tbl := lw_at lw_m1 62 rfl
theorem q174 : (Jvm.Cond.fieldLinkNest "ElephantEdge" (186 : Nat) "ElephantEdge$Land" "stalks" "[I" "ElephantEdge") ∈ lw_tbl := lw_at lw_m1 64 rfl
theorem q176 : (Jvm.Cond.fieldLinkNest "ElephantEdge" (240 : Nat) "ElephantEdge$Land" "fear" "[I" "ElephantEdge") ∈ lw_tbl := lw_at lw_m1 66 rfl
theorem q202 : (Jvm.Cond.classLink "ElephantEdge" (54 : Nat) "ElephantEdge$Ways") ∈ lw_all := lw_g (lw_at lw_m1 92 rfl) rfl
theorem q204 : (Jvm.Cond.methodLinkNest "ElephantEdge" (56 : Nat) ({ cls := "ElephantEdge$Ways", name := "<init>", desc := "()V" } : Jvm.MethodName) "ElephantEdge") ∈ lw_tbl := lw_at lw_m1 94 rfl
theorem q209 : (Jvm.Cond.fieldLinkNest "ElephantEdge" (279 : Nat) "ElephantEdge$Ways" "cost" "[I" "ElephantEdge") ∈ lw_tbl := lw_at lw_m1 99 rfl
theorem q211 : (Jvm.Cond.fieldLinkNest "ElephantEdge" (290 : Nat) "ElephantEdge$Ways" "way" "[I" "ElephantEdge") ∈ lw_tbl := lw_at lw_m1 101 rfl
theorem q214 : (Jvm.Cond.fieldLinkNest "ElephantEdge" (287 : Nat) "ElephantEdge$Ways" "length" "I" "ElephantEdge") ∈ lw_tbl := lw_at lw_m1 104 rfl
theorem q225 : (Jvm.Cond.classLink "ElephantEdge" (61 : Nat) "ElephantEdge$Steps") ∈ lw_all := lw_g (lw_at lw_m1 115 rfl) rfl
theorem q227 : (Jvm.Cond.methodLinkNest "ElephantEdge" (63 : Nat) ({ cls := "ElephantEdge$Steps", name := "<init>", desc := "()V" } : Jvm.MethodName) "ElephantEdge") ∈ lw_tbl := lw_at lw_m1 117 rfl
theorem q232 : (Jvm.Cond.fieldLinkNest "ElephantEdge" (449 : Nat) "ElephantEdge$Steps" "far" "[I" "ElephantEdge") ∈ lw_tbl := lw_at lw_m1 122 rfl
theorem q239 : (Jvm.Cond.classLink "ElephantEdge" (68 : Nat) "java/util/ArrayList") ∈ lw_all := lw_g (lw_at lw_m1 129 rfl) rfl
theorem q241 : (Jvm.Cond.methodLink "ElephantEdge" (70 : Nat) ({ cls := "java/util/ArrayList", name := "<init>", desc := "()V" } : Jvm.MethodName)) ∈ lw_all := lw_g (lw_at lw_m1 131 rfl) rfl
theorem q265 : (Jvm.Cond.classLink "ElephantEdge" (146 : Nat) "[[Z") ∈ lw_all := lw_g (lw_at lw_m1 155 rfl) rfl
theorem q267 : (Jvm.Cond.classLink "ElephantEdge" (151 : Nat) "ElephantEdge$Rule") ∈ lw_all := lw_g (lw_at lw_m1 157 rfl) rfl
theorem q269 : (Jvm.Cond.methodLink "ElephantEdge" (153 : Nat) ({ cls := "ElephantEdge$Rule", name := "<init>", desc := "(LElephantEdge;I)V" } : Jvm.MethodName)) ∈ lw_all := lw_g (lw_at lw_m1 159 rfl) rfl
theorem q318 : (Jvm.Cond.fieldLinkNest "ElephantEdge" (272 : Nat) "ElephantEdge$Rule" "step" "I" "ElephantEdge") ∈ lw_tbl := lw_at lw_m1 208 rfl
theorem q320 : (Jvm.Cond.fieldLinkNest "ElephantEdge" (299 : Nat) "ElephantEdge$Rule" "scare" "I" "ElephantEdge") ∈ lw_tbl := lw_at lw_m1 210 rfl
theorem q322 : (Jvm.Cond.fieldLinkNest "ElephantEdge" (332 : Nat) "ElephantEdge$Rule" "wear" "I" "ElephantEdge") ∈ lw_tbl := lw_at lw_m1 212 rfl
theorem q324 : (Jvm.Cond.fieldLinkNest "ElephantEdge" (431 : Nat) "ElephantEdge$Rule" "cap" "I" "ElephantEdge") ∈ lw_tbl := lw_at lw_m1 214 rfl
theorem q326 : (Jvm.Cond.fieldLinkNest "ElephantEdge" (422 : Nat) "ElephantEdge$Rule" "pay" "LElephantEdge$Formula;" "ElephantEdge") ∈ lw_tbl := lw_at lw_m1 216 rfl
theorem q328 : (Jvm.Cond.fieldLinkNest "ElephantEdge" (251 : Nat) "ElephantEdge$Rule" "at" "I" "ElephantEdge") ∈ lw_tbl := lw_at lw_m1 218 rfl
theorem q330 : (Jvm.Cond.fieldLinkNest "ElephantEdge" (253 : Nat) "ElephantEdge$Rule" "many" "I" "ElephantEdge") ∈ lw_tbl := lw_at lw_m1 220 rfl
theorem q358 : (Jvm.Cond.fieldLink "ElephantEdge" (37 : Nat) "ElephantEdge" "tape" "[B") ∈ lw_all := lw_g (lw_at lw_m2 8 rfl) rfl
theorem q360 : (Jvm.Cond.fieldLink "ElephantEdge" (44 : Nat) "ElephantEdge" "land" "LElephantEdge$Land;") ∈ lw_all := lw_g (lw_at lw_m2 10 rfl) rfl
theorem q361 : (Jvm.Cond.fieldLink "ElephantEdge" (48 : Nat) "ElephantEdge" "other" "LElephantEdge$Land;") ∈ lw_all := lw_g (lw_at lw_m2 11 rfl) rfl
theorem q362 : (Jvm.Cond.fieldLink "ElephantEdge" (51 : Nat) "ElephantEdge" "before" "LElephantEdge$Land;") ∈ lw_all := lw_g (lw_at lw_m2 12 rfl) rfl
theorem q363 : (Jvm.Cond.fieldLink "ElephantEdge" (57 : Nat) "ElephantEdge" "ways" "LElephantEdge$Ways;") ∈ lw_all := lw_g (lw_at lw_m2 13 rfl) rfl
theorem q364 : (Jvm.Cond.fieldLink "ElephantEdge" (64 : Nat) "ElephantEdge" "steps" "LElephantEdge$Steps;") ∈ lw_all := lw_g (lw_at lw_m2 14 rfl) rfl
theorem q365 : (Jvm.Cond.fieldLink "ElephantEdge" (71 : Nat) "ElephantEdge" "herds" "Ljava/util/ArrayList;") ∈ lw_all := lw_g (lw_at lw_m2 15 rfl) rfl
theorem q366 : (Jvm.Cond.fieldLink "ElephantEdge" (75 : Nat) "ElephantEdge" "claims" "Ljava/util/ArrayList;") ∈ lw_all := lw_g (lw_at lw_m2 16 rfl) rfl
theorem q367 : (Jvm.Cond.fieldLink "ElephantEdge" (78 : Nat) "ElephantEdge" "wires" "Ljava/util/ArrayList;") ∈ lw_all := lw_g (lw_at lw_m2 17 rfl) rfl
theorem q368 : (Jvm.Cond.fieldLink "ElephantEdge" (81 : Nat) "ElephantEdge" "trips" "Ljava/util/ArrayList;") ∈ lw_all := lw_g (lw_at lw_m2 18 rfl) rfl
theorem q369 : (Jvm.Cond.fieldLink "ElephantEdge" (84 : Nat) "ElephantEdge" "villageOf" "[I") ∈ lw_all := lw_g (lw_at lw_m2 19 rfl) rfl
theorem q370 : (Jvm.Cond.fieldLink "ElephantEdge" (88 : Nat) "ElephantEdge" "watchers" "[I") ∈ lw_all := lw_g (lw_at lw_m2 20 rfl) rfl
theorem q371 : (Jvm.Cond.fieldLink "ElephantEdge" (91 : Nat) "ElephantEdge" "watchCells" "[I") ∈ lw_all := lw_g (lw_at lw_m2 21 rfl) rfl
theorem q373 : (Jvm.Cond.fieldLink "ElephantEdge" (94 : Nat) "ElephantEdge" "watchedNights" "[I") ∈ lw_all := lw_g (lw_at lw_m2 23 rfl) rfl
theorem q374 : (Jvm.Cond.fieldLink "ElephantEdge" (97 : Nat) "ElephantEdge" "ripe" "[I") ∈ lw_all := lw_g (lw_at lw_m2 24 rfl) rfl
theorem q375 : (Jvm.Cond.fieldLink "ElephantEdge" (100 : Nat) "ElephantEdge" "debts" "[I") ∈ lw_all := lw_g (lw_at lw_m2 25 rfl) rfl
theorem q376 : (Jvm.Cond.fieldLink "ElephantEdge" (103 : Nat) "ElephantEdge" "rents" "[I") ∈ lw_all := lw_g (lw_at lw_m2 26 rfl) rfl
theorem q377 : (Jvm.Cond.fieldLink "ElephantEdge" (106 : Nat) "ElephantEdge" "windHour" "[I") ∈ lw_all := lw_g (lw_at lw_m2 27 rfl) rfl
theorem q378 : (Jvm.Cond.fieldLink "ElephantEdge" (109 : Nat) "ElephantEdge" "windForce" "[I") ∈ lw_all := lw_g (lw_at lw_m2 28 rfl) rfl
theorem q379 : (Jvm.Cond.fieldLink "ElephantEdge" (112 : Nat) "ElephantEdge" "told" "[I") ∈ lw_all := lw_g (lw_at lw_m2 29 rfl) rfl
theorem q380 : (Jvm.Cond.fieldLink "ElephantEdge" (115 : Nat) "ElephantEdge" "gapRow" "[I") ∈ lw_all := lw_g (lw_at lw_m2 30 rfl) rfl
theorem q381 : (Jvm.Cond.fieldLink "ElephantEdge" (118 : Nat) "ElephantEdge" "calledRow" "[I") ∈ lw_all := lw_g (lw_at lw_m2 31 rfl) rfl
theorem q382 : (Jvm.Cond.fieldLink "ElephantEdge" (121 : Nat) "ElephantEdge" "losses" "[I") ∈ lw_all := lw_g (lw_at lw_m2 32 rfl) rfl
theorem q383 : (Jvm.Cond.fieldLink "ElephantEdge" (124 : Nat) "ElephantEdge" "foretoldLosses" "[I") ∈ lw_all := lw_g (lw_at lw_m2 33 rfl) rfl
theorem q384 : (Jvm.Cond.fieldLink "ElephantEdge" (127 : Nat) "ElephantEdge" "nightLosses" "[I") ∈ lw_all := lw_g (lw_at lw_m2 34 rfl) rfl
theorem q386 : (Jvm.Cond.fieldLink "ElephantEdge" (130 : Nat) "ElephantEdge" "watchedLast" "[Z") ∈ lw_all := lw_g (lw_at lw_m2 36 rfl) rfl
theorem q388 : (Jvm.Cond.fieldLink "ElephantEdge" (134 : Nat) "ElephantEdge" "joins" "[Z") ∈ lw_all := lw_g (lw_at lw_m2 38 rfl) rfl
theorem q389 : (Jvm.Cond.fieldLink "ElephantEdge" (137 : Nat) "ElephantEdge" "isLeased" "[Z") ∈ lw_all := lw_g (lw_at lw_m2 39 rfl) rfl
theorem q390 : (Jvm.Cond.fieldLink "ElephantEdge" (140 : Nat) "ElephantEdge" "mayBe" "[Z") ∈ lw_all := lw_g (lw_at lw_m2 40 rfl) rfl
theorem q391 : (Jvm.Cond.fieldLink "ElephantEdge" (143 : Nat) "ElephantEdge" "isShut" "[Z") ∈ lw_all := lw_g (lw_at lw_m2 41 rfl) rfl
theorem q392 : (Jvm.Cond.fieldLink "ElephantEdge" (148 : Nat) "ElephantEdge" "awayIn" "[[Z") ∈ lw_all := lw_g (lw_at lw_m2 42 rfl) rfl
theorem q393 : (Jvm.Cond.fieldLink "ElephantEdge" (156 : Nat) "ElephantEdge" "rule" "LElephantEdge$Rule;") ∈ lw_all := lw_g (lw_at lw_m2 43 rfl) rfl
theorem q394 : (Jvm.Cond.fieldLink "ElephantEdge" (243 : Nat) "ElephantEdge" "taped" "I") ∈ lw_all := lw_g (lw_at lw_m2 44 rfl) rfl
theorem q396 : (Jvm.Cond.fieldLink "ElephantEdge" (325 : Nat) "ElephantEdge" "night" "I") ∈ lw_all := lw_g (lw_at lw_m2 46 rfl) rfl
theorem q397 : (Jvm.Cond.fieldLink "ElephantEdge" (296 : Nat) "ElephantEdge" "watches" "I") ∈ lw_all := lw_g (lw_at lw_m2 47 rfl) rfl
theorem q398 : (Jvm.Cond.fieldLink "ElephantEdge" (414 : Nat) "ElephantEdge" "fund" "I") ∈ lw_all := lw_g (lw_at lw_m2 48 rfl) rfl
theorem q399 : (Jvm.Cond.fieldLink "ElephantEdge" (397 : Nat) "ElephantEdge" "found" "I") ∈ lw_all := lw_g (lw_at lw_m2 49 rfl) rfl
theorem q400 : (Jvm.Cond.fieldLink "ElephantEdge" (462 : Nat) "ElephantEdge" "winds" "I") ∈ lw_all := lw_g (lw_at lw_m2 50 rfl) rfl
theorem q401 : (Jvm.Cond.fieldLink "ElephantEdge" (502 : Nat) "ElephantEdge" "gaps" "I") ∈ lw_all := lw_g (lw_at lw_m2 51 rfl) rfl
theorem q402 : (Jvm.Cond.laysFinal "ElephantEdge" "ElephantEdge" "tape" "[B") ∈ lw_all := lw_g (lw_at lw_m2 52 rfl) rfl
theorem q403 : (Jvm.Cond.soleField "ElephantEdge" "tape") ∈ lw_all := lw_g (lw_at lw_m2 53 rfl) rfl
theorem q404 : (Jvm.Cond.laysFinal "ElephantEdge" "ElephantEdge" "land" "LElephantEdge$Land;") ∈ lw_all := lw_g (lw_at lw_m2 54 rfl) rfl
theorem q405 : (Jvm.Cond.soleField "ElephantEdge" "land") ∈ lw_all := lw_g (lw_at lw_m2 55 rfl) rfl
theorem q406 : (Jvm.Cond.laysFinal "ElephantEdge" "ElephantEdge" "other" "LElephantEdge$Land;") ∈ lw_all := lw_g (lw_at lw_m2 56 rfl) rfl
theorem q407 : (Jvm.Cond.soleField "ElephantEdge" "other") ∈ lw_all := lw_g (lw_at lw_m2 57 rfl) rfl
theorem q408 : (Jvm.Cond.laysFinal "ElephantEdge" "ElephantEdge" "before" "LElephantEdge$Land;") ∈ lw_all := lw_g (lw_at lw_m2 58 rfl) rfl
theorem q409 : (Jvm.Cond.soleField "ElephantEdge" "before") ∈ lw_all := lw_g (lw_at lw_m2 59 rfl) rfl
theorem q410 : (Jvm.Cond.laysFinal "ElephantEdge" "ElephantEdge" "ways" "LElephantEdge$Ways;") ∈ lw_all := lw_g (lw_at lw_m2 60 rfl) rfl
theorem q411 : (Jvm.Cond.soleField "ElephantEdge" "ways") ∈ lw_all := lw_g (lw_at lw_m2 61 rfl) rfl
theorem q412 : (Jvm.Cond.laysFinal "ElephantEdge" "ElephantEdge" "steps" "LElephantEdge$Steps;") ∈ lw_all := lw_g (lw_at lw_m2 62 rfl) rfl
theorem q413 : (Jvm.Cond.soleField "ElephantEdge" "steps") ∈ lw_all := lw_g (lw_at lw_m2 63 rfl) rfl
theorem q414 : (Jvm.Cond.laysFinal "ElephantEdge" "ElephantEdge" "herds" "Ljava/util/ArrayList;") ∈ lw_all := lw_g (lw_at lw_m2 64 rfl) rfl
theorem q415 : (Jvm.Cond.soleField "ElephantEdge" "herds") ∈ lw_all := lw_g (lw_at lw_m2 65 rfl) rfl
theorem q416 : (Jvm.Cond.laysFinal "ElephantEdge" "ElephantEdge" "claims" "Ljava/util/ArrayList;") ∈ lw_all := lw_g (lw_at lw_m2 66 rfl) rfl
theorem q417 : (Jvm.Cond.soleField "ElephantEdge" "claims") ∈ lw_all := lw_g (lw_at lw_m2 67 rfl) rfl
theorem q418 : (Jvm.Cond.laysFinal "ElephantEdge" "ElephantEdge" "wires" "Ljava/util/ArrayList;") ∈ lw_all := lw_g (lw_at lw_m2 68 rfl) rfl
theorem q419 : (Jvm.Cond.soleField "ElephantEdge" "wires") ∈ lw_all := lw_g (lw_at lw_m2 69 rfl) rfl
theorem q420 : (Jvm.Cond.laysFinal "ElephantEdge" "ElephantEdge" "trips" "Ljava/util/ArrayList;") ∈ lw_all := lw_g (lw_at lw_m2 70 rfl) rfl
theorem q421 : (Jvm.Cond.soleField "ElephantEdge" "trips") ∈ lw_all := lw_g (lw_at lw_m2 71 rfl) rfl
theorem q422 : (Jvm.Cond.laysFinal "ElephantEdge" "ElephantEdge" "villageOf" "[I") ∈ lw_all := lw_g (lw_at lw_m2 72 rfl) rfl
theorem q423 : (Jvm.Cond.soleField "ElephantEdge" "villageOf") ∈ lw_all := lw_g (lw_at lw_m2 73 rfl) rfl
theorem q424 : (Jvm.Cond.laysFinal "ElephantEdge" "ElephantEdge" "watchers" "[I") ∈ lw_all := lw_g (lw_at lw_m2 74 rfl) rfl
theorem q425 : (Jvm.Cond.soleField "ElephantEdge" "watchers") ∈ lw_all := lw_g (lw_at lw_m2 75 rfl) rfl
theorem q426 : (Jvm.Cond.laysFinal "ElephantEdge" "ElephantEdge" "watchCells" "[I") ∈ lw_all := lw_g (lw_at lw_m2 76 rfl) rfl
theorem q427 : (Jvm.Cond.soleField "ElephantEdge" "watchCells") ∈ lw_all := lw_g (lw_at lw_m2 77 rfl) rfl
theorem q428 : (Jvm.Cond.laysFinal "ElephantEdge" "ElephantEdge" "watchedNights" "[I") ∈ lw_all := lw_g (lw_at lw_m2 78 rfl) rfl
theorem q429 : (Jvm.Cond.soleField "ElephantEdge" "watchedNights") ∈ lw_all := lw_g (lw_at lw_m2 79 rfl) rfl
theorem q430 : (Jvm.Cond.laysFinal "ElephantEdge" "ElephantEdge" "ripe" "[I") ∈ lw_all := lw_g (lw_at lw_m2 80 rfl) rfl
theorem q431 : (Jvm.Cond.soleField "ElephantEdge" "ripe") ∈ lw_all := lw_g (lw_at lw_m2 81 rfl) rfl
theorem q432 : (Jvm.Cond.laysFinal "ElephantEdge" "ElephantEdge" "debts" "[I") ∈ lw_all := lw_g (lw_at lw_m2 82 rfl) rfl
theorem q433 : (Jvm.Cond.soleField "ElephantEdge" "debts") ∈ lw_all := lw_g (lw_at lw_m2 83 rfl) rfl
theorem q434 : (Jvm.Cond.laysFinal "ElephantEdge" "ElephantEdge" "rents" "[I") ∈ lw_all := lw_g (lw_at lw_m2 84 rfl) rfl
theorem q435 : (Jvm.Cond.soleField "ElephantEdge" "rents") ∈ lw_all := lw_g (lw_at lw_m2 85 rfl) rfl
theorem q436 : (Jvm.Cond.laysFinal "ElephantEdge" "ElephantEdge" "windHour" "[I") ∈ lw_all := lw_g (lw_at lw_m2 86 rfl) rfl
theorem q437 : (Jvm.Cond.soleField "ElephantEdge" "windHour") ∈ lw_all := lw_g (lw_at lw_m2 87 rfl) rfl
theorem q438 : (Jvm.Cond.laysFinal "ElephantEdge" "ElephantEdge" "windForce" "[I") ∈ lw_all := lw_g (lw_at lw_m2 88 rfl) rfl
theorem q439 : (Jvm.Cond.soleField "ElephantEdge" "windForce") ∈ lw_all := lw_g (lw_at lw_m2 89 rfl) rfl
theorem q440 : (Jvm.Cond.laysFinal "ElephantEdge" "ElephantEdge" "told" "[I") ∈ lw_all := lw_g (lw_at lw_m2 90 rfl) rfl
theorem q441 : (Jvm.Cond.soleField "ElephantEdge" "told") ∈ lw_all := lw_g (lw_at lw_m2 91 rfl) rfl
theorem q442 : (Jvm.Cond.laysFinal "ElephantEdge" "ElephantEdge" "gapRow" "[I") ∈ lw_all := lw_g (lw_at lw_m2 92 rfl) rfl
theorem q443 : (Jvm.Cond.soleField "ElephantEdge" "gapRow") ∈ lw_all := lw_g (lw_at lw_m2 93 rfl) rfl
theorem q444 : (Jvm.Cond.laysFinal "ElephantEdge" "ElephantEdge" "calledRow" "[I") ∈ lw_all := lw_g (lw_at lw_m2 94 rfl) rfl
theorem q445 : (Jvm.Cond.soleField "ElephantEdge" "calledRow") ∈ lw_all := lw_g (lw_at lw_m2 95 rfl) rfl
theorem q446 : (Jvm.Cond.lays "ElephantEdge" "ElephantEdge" "losses" "[I") ∈ lw_all := lw_g (lw_at lw_m2 96 rfl) rfl
theorem q447 : (Jvm.Cond.soleField "ElephantEdge" "losses") ∈ lw_all := lw_g (lw_at lw_m2 97 rfl) rfl
theorem q448 : (Jvm.Cond.laysFinal "ElephantEdge" "ElephantEdge" "foretoldLosses" "[I") ∈ lw_all := lw_g (lw_at lw_m2 98 rfl) rfl
theorem q449 : (Jvm.Cond.soleField "ElephantEdge" "foretoldLosses") ∈ lw_all := lw_g (lw_at lw_m2 99 rfl) rfl
theorem q450 : (Jvm.Cond.laysFinal "ElephantEdge" "ElephantEdge" "nightLosses" "[I") ∈ lw_all := lw_g (lw_at lw_m2 100 rfl) rfl
theorem q451 : (Jvm.Cond.soleField "ElephantEdge" "nightLosses") ∈ lw_all := lw_g (lw_at lw_m2 101 rfl) rfl
theorem q452 : (Jvm.Cond.laysFinal "ElephantEdge" "ElephantEdge" "watchedLast" "[Z") ∈ lw_all := lw_g (lw_at lw_m2 102 rfl) rfl
theorem q453 : (Jvm.Cond.soleField "ElephantEdge" "watchedLast") ∈ lw_all := lw_g (lw_at lw_m2 103 rfl) rfl
theorem q454 : (Jvm.Cond.laysFinal "ElephantEdge" "ElephantEdge" "joins" "[Z") ∈ lw_all := lw_g (lw_at lw_m2 104 rfl) rfl
theorem q455 : (Jvm.Cond.soleField "ElephantEdge" "joins") ∈ lw_all := lw_g (lw_at lw_m2 105 rfl) rfl
theorem q456 : (Jvm.Cond.laysFinal "ElephantEdge" "ElephantEdge" "isLeased" "[Z") ∈ lw_all := lw_g (lw_at lw_m2 106 rfl) rfl
theorem q457 : (Jvm.Cond.soleField "ElephantEdge" "isLeased") ∈ lw_all := lw_g (lw_at lw_m2 107 rfl) rfl
theorem q458 : (Jvm.Cond.laysFinal "ElephantEdge" "ElephantEdge" "mayBe" "[Z") ∈ lw_all := lw_g (lw_at lw_m2 108 rfl) rfl
theorem q459 : (Jvm.Cond.soleField "ElephantEdge" "mayBe") ∈ lw_all := lw_g (lw_at lw_m2 109 rfl) rfl
theorem q460 : (Jvm.Cond.laysFinal "ElephantEdge" "ElephantEdge" "isShut" "[Z") ∈ lw_all := lw_g (lw_at lw_m2 110 rfl) rfl
theorem q461 : (Jvm.Cond.soleField "ElephantEdge" "isShut") ∈ lw_all := lw_g (lw_at lw_m2 111 rfl) rfl
theorem q462 : (Jvm.Cond.laysFinal "ElephantEdge" "ElephantEdge" "awayIn" "[[Z") ∈ lw_all := lw_g (lw_at lw_m2 112 rfl) rfl
theorem q463 : (Jvm.Cond.soleField "ElephantEdge" "awayIn") ∈ lw_all := lw_g (lw_at lw_m2 113 rfl) rfl
theorem q464 : (Jvm.Cond.lays "ElephantEdge" "ElephantEdge" "rule" "LElephantEdge$Rule;") ∈ lw_all := lw_g (lw_at lw_m2 114 rfl) rfl
theorem q465 : (Jvm.Cond.soleField "ElephantEdge" "rule") ∈ lw_all := lw_g (lw_at lw_m2 115 rfl) rfl
theorem q466 : (Jvm.Cond.lays "ElephantEdge" "ElephantEdge" "taped" "I") ∈ lw_all := lw_g (lw_at lw_m2 116 rfl) rfl
theorem q467 : (Jvm.Cond.soleField "ElephantEdge" "taped") ∈ lw_all := lw_g (lw_at lw_m2 117 rfl) rfl
theorem q468 : (Jvm.Cond.lays "ElephantEdge" "ElephantEdge" "night" "I") ∈ lw_all := lw_g (lw_at lw_m2 118 rfl) rfl
theorem q469 : (Jvm.Cond.soleField "ElephantEdge" "night") ∈ lw_all := lw_g (lw_at lw_m2 119 rfl) rfl
theorem q470 : (Jvm.Cond.lays "ElephantEdge" "ElephantEdge" "watches" "I") ∈ lw_all := lw_g (lw_at lw_m2 120 rfl) rfl
theorem q471 : (Jvm.Cond.soleField "ElephantEdge" "watches") ∈ lw_all := lw_g (lw_at lw_m2 121 rfl) rfl
theorem q472 : (Jvm.Cond.lays "ElephantEdge" "ElephantEdge" "fund" "I") ∈ lw_all := lw_g (lw_at lw_m2 122 rfl) rfl
theorem q473 : (Jvm.Cond.soleField "ElephantEdge" "fund") ∈ lw_all := lw_g (lw_at lw_m2 123 rfl) rfl
theorem q474 : (Jvm.Cond.lays "ElephantEdge" "ElephantEdge" "found" "I") ∈ lw_all := lw_g (lw_at lw_m2 124 rfl) rfl
theorem q475 : (Jvm.Cond.soleField "ElephantEdge" "found") ∈ lw_all := lw_g (lw_at lw_m2 125 rfl) rfl
theorem q476 : (Jvm.Cond.lays "ElephantEdge" "ElephantEdge" "winds" "I") ∈ lw_all := lw_g (lw_at lw_m2 126 rfl) rfl
theorem q477 : (Jvm.Cond.soleField "ElephantEdge" "winds") ∈ lw_all := lw_g (lw_at lw_m2 127 rfl) rfl
theorem q478 : (Jvm.Cond.lays "ElephantEdge" "ElephantEdge" "gaps" "I") ∈ lw_all := lw_g (lw_at lw_m2 128 rfl) rfl
theorem q479 : (Jvm.Cond.soleField "ElephantEdge" "gaps") ∈ lw_all := lw_g (lw_at lw_m2 129 rfl) rfl
theorem q480 : (Jvm.Cond.superclass "ElephantEdge" "java/lang/Object") ∈ lw_all := lw_g (lw_at lw_m2 130 rfl) rfl
theorem q482 : (Jvm.Cond.instanceMethod ({ cls := "ElephantEdge", name := "feed", desc := "(IIIII)I" } : Jvm.MethodName)) ∈ lw_all := lw_g (lw_at lw_m2 132 rfl) rfl
theorem q483 : (Jvm.Cond.selects "ElephantEdge" ({ cls := "ElephantEdge", name := "feed", desc := "(IIIII)I" } : Jvm.MethodName) ({ cls := "ElephantEdge", name := "feed", desc := "(IIIII)I" } : Jvm.MethodName)) ∈ lw_all := lw_g (lw_at lw_m2 133 rfl) rfl
theorem q484 : (Jvm.Cond.code ({ cls := "ElephantEdge", name := "feed", desc := "(IIIII)I" } : Jvm.MethodName) prog_1_method_23_code (12 : Nat) (Option.some Jvm.ClassFile.FieldType.int)) ∈ lw_all := lw_g (lw_at lw_m2 134 rfl) rfl
theorem q486 : (Jvm.Cond.instanceMethod ({ cls := "ElephantEdge", name := "night", desc := "()I" } : Jvm.MethodName)) ∈ lw_all := lw_g (lw_at lw_m2 136 rfl) rfl
theorem q487 : (Jvm.Cond.selects "ElephantEdge" ({ cls := "ElephantEdge", name := "night", desc := "()I" } : Jvm.MethodName) ({ cls := "ElephantEdge", name := "night", desc := "()I" } : Jvm.MethodName)) ∈ lw_all := lw_g (lw_at lw_m2 137 rfl) rfl
theorem q488 : (Jvm.Cond.code ({ cls := "ElephantEdge", name := "night", desc := "()I" } : Jvm.MethodName) prog_1_method_39_code (5 : Nat) (Option.some Jvm.ClassFile.FieldType.int)) ∈ lw_all := lw_g (lw_at lw_m2 138 rfl) rfl
theorem q489 : (Jvm.Cond.methodLink "ElephantEdge" (341 : Nat) ({ cls := "ElephantEdge$Land", name := "like", desc := "(LElephantEdge$Land;)V" } : Jvm.MethodName)) ∈ lw_all := lw_g (lw_at lw_m2 139 rfl) rfl
theorem q496 : (Jvm.Cond.methodLink "ElephantEdge" (321 : Nat) ({ cls := "ElephantEdge", name := "watch", desc := "(LElephantEdge$Land;)V" } : Jvm.MethodName)) ∈ lw_all := lw_g (lw_at lw_m2 146 rfl) rfl
theorem q497 : (Jvm.Cond.privateMethod ({ cls := "ElephantEdge", name := "watch", desc := "(LElephantEdge$Land;)V" } : Jvm.MethodName)) ∈ lw_tbl := lw_at lw_m2 147 rfl
theorem q498 : (Jvm.Cond.instanceMethod ({ cls := "ElephantEdge", name := "watch", desc := "(LElephantEdge$Land;)V" } : Jvm.MethodName)) ∈ lw_all := lw_g (lw_at lw_m2 148 rfl) rfl
theorem q499 : (Jvm.Cond.code ({ cls := "ElephantEdge", name := "watch", desc := "(LElephantEdge$Land;)V" } : Jvm.MethodName) prog_1_method_31_code (3 : Nat) (Option.none : Option Jvm.ClassFile.FieldType)) ∈ lw_all := lw_g (lw_at lw_m2 149 rfl) rfl
theorem q500 : (Jvm.Cond.methodLink "ElephantEdge" (302 : Nat) ({ cls := "ElephantEdge$Land", name := "frightens", desc := "(II)V" } : Jvm.MethodName)) ∈ lw_all := lw_g (lw_at lw_m2 150 rfl) rfl
theorem q508 : (Jvm.Cond.static ({ cls := "ElephantEdge", name := "next", desc := "(II)I" } : Jvm.MethodName)) ∈ lw_all := lw_g (lw_at lw_m2 158 rfl) rfl
theorem q509 : (Jvm.Cond.code ({ cls := "ElephantEdge", name := "next", desc := "(II)I" } : Jvm.MethodName) prog_1_method_4_code (4 : Nat) (Option.some Jvm.ClassFile.FieldType.int)) ∈ lw_all := lw_g (lw_at lw_m2 159 rfl) rfl
theorem q510 : (Jvm.Cond.methodLink "ElephantEdge" (328 : Nat) ({ cls := "ElephantEdge", name := "comes", desc := "(LElephantEdge$Land;I)I" } : Jvm.MethodName)) ∈ lw_all := lw_g (lw_at lw_m2 160 rfl) rfl
theorem q511 : (Jvm.Cond.privateMethod ({ cls := "ElephantEdge", name := "comes", desc := "(LElephantEdge$Land;I)I" } : Jvm.MethodName)) ∈ lw_tbl := lw_at lw_m2 161 rfl
theorem q512 : (Jvm.Cond.instanceMethod ({ cls := "ElephantEdge", name := "comes", desc := "(LElephantEdge$Land;I)I" } : Jvm.MethodName)) ∈ lw_all := lw_g (lw_at lw_m2 162 rfl) rfl
theorem q513 : (Jvm.Cond.code ({ cls := "ElephantEdge", name := "comes", desc := "(LElephantEdge$Land;I)I" } : Jvm.MethodName) prog_1_method_30_code (5 : Nat) (Option.some Jvm.ClassFile.FieldType.int)) ∈ lw_all := lw_g (lw_at lw_m2 163 rfl) rfl
theorem q514 : (Jvm.Cond.methodLink "ElephantEdge" (189 : Nat) ({ cls := "java/util/ArrayList", name := "size", desc := "()I" } : Jvm.MethodName)) ∈ lw_all := lw_g (lw_at lw_m2 164 rfl) rfl
theorem q518 : (Jvm.Cond.methodLink "ElephantEdge" (193 : Nat) ({ cls := "java/util/ArrayList", name := "get", desc := "(I)Ljava/lang/Object;" } : Jvm.MethodName)) ∈ lw_all := lw_g (lw_at lw_m2 168 rfl) rfl
theorem q532 : (Jvm.Cond.classLink "ElephantEdge" (197 : Nat) "ElephantEdge$Herd") ∈ lw_all := lw_g (lw_at lw_m2 182 rfl) rfl
theorem q533 : (Jvm.Cond.methodLink "ElephantEdge" (293 : Nat) ({ cls := "ElephantEdge", name := "goes", desc := "(LElephantEdge$Land;LElephantEdge$Herd;I)I" } : Jvm.MethodName)) ∈ lw_all := lw_g (lw_at lw_m2 183 rfl) rfl
theorem q534 : (Jvm.Cond.privateMethod ({ cls := "ElephantEdge", name := "goes", desc := "(LElephantEdge$Land;LElephantEdge$Herd;I)I" } : Jvm.MethodName)) ∈ lw_tbl := lw_at lw_m2 184 rfl
theorem q535 : (Jvm.Cond.instanceMethod ({ cls := "ElephantEdge", name := "goes", desc := "(LElephantEdge$Land;LElephantEdge$Herd;I)I" } : Jvm.MethodName)) ∈ lw_all := lw_g (lw_at lw_m2 185 rfl) rfl
theorem q536 : (Jvm.Cond.code ({ cls := "ElephantEdge", name := "goes", desc := "(LElephantEdge$Land;LElephantEdge$Herd;I)I" } : Jvm.MethodName) prog_1_method_32_code (8 : Nat) (Option.some Jvm.ClassFile.FieldType.int)) ∈ lw_all := lw_g (lw_at lw_m2 186 rfl) rfl
theorem q537 : (Jvm.Cond.methodLink "ElephantEdge" (275 : Nat) ({ cls := "ElephantEdge$Ways", name := "from", desc := "(LElephantEdge$Land;IIZ)V" } : Jvm.MethodName)) ∈ lw_all := lw_g (lw_at lw_m2 187 rfl) rfl
theorem q563 : (Jvm.Cond.methodLink "ElephantEdge" (305 : Nat) ({ cls := "ElephantEdge$Land", name := "isRipe", desc := "(I)Z" } : Jvm.MethodName)) ∈ lw_all := lw_g (lw_at lw_m2 213 rfl) rfl
theorem q567 : (Jvm.Cond.constant "ElephantEdge" (282 : Nat) (1000000000 : Int32)) ∈ lw_all := lw_g (lw_at lw_m2 217 rfl) rfl
theorem q568 : (Jvm.Cond.methodLink "ElephantEdge" (256 : Nat) ({ cls := "ElephantEdge$Rule", name := "like", desc := "(II)I" } : Jvm.MethodName)) ∈ lw_all := lw_g (lw_at lw_m2 218 rfl) rfl
theorem q573 : (Jvm.Cond.methodLink "ElephantEdge" (311 : Nat) ({ cls := "java/lang/Math", name := "min", desc := "(II)I" } : Jvm.MethodName)) ∈ lw_all := lw_g (lw_at lw_m2 223 rfl) rfl
theorem q574 : (Jvm.Cond.methodLink "ElephantEdge" (283 : Nat) ({ cls := "ElephantEdge$Ways", name := "goes", desc := "(LElephantEdge$Land;III)V" } : Jvm.MethodName)) ∈ lw_all := lw_g (lw_at lw_m2 224 rfl) rfl
theorem q579 : (Jvm.Cond.methodLink "ElephantEdge" (234 : Nat) ({ cls := "ElephantEdge$Land", name := "fence", desc := "(III)V" } : Jvm.MethodName)) ∈ lw_all := lw_g (lw_at lw_m2 229 rfl) rfl
theorem q583 : (Jvm.Cond.methodLink "ElephantEdge" (314 : Nat) ({ cls := "ElephantEdge", name := "harms", desc := "(LElephantEdge$Land;II)I" } : Jvm.MethodName)) ∈ lw_all := lw_g (lw_at lw_m2 233 rfl) rfl
theorem q584 : (Jvm.Cond.privateMethod ({ cls := "ElephantEdge", name := "harms", desc := "(LElephantEdge$Land;II)I" } : Jvm.MethodName)) ∈ lw_tbl := lw_at lw_m2 234 rfl
theorem q585 : (Jvm.Cond.instanceMethod ({ cls := "ElephantEdge", name := "harms", desc := "(LElephantEdge$Land;II)I" } : Jvm.MethodName)) ∈ lw_all := lw_g (lw_at lw_m2 235 rfl) rfl
theorem q586 : (Jvm.Cond.code ({ cls := "ElephantEdge", name := "harms", desc := "(LElephantEdge$Land;II)I" } : Jvm.MethodName) prog_1_method_33_code (5 : Nat) (Option.some Jvm.ClassFile.FieldType.int)) ∈ lw_all := lw_g (lw_at lw_m2 236 rfl) rfl
theorem q587 : (Jvm.Cond.methodLink "ElephantEdge" (318 : Nat) ({ cls := "ElephantEdge$Land", name := "loses", desc := "(II)I" } : Jvm.MethodName)) ∈ lw_all := lw_g (lw_at lw_m2 237 rfl) rfl
theorem q591 : (Jvm.Cond.methodLink "ElephantEdge" (335 : Nat) ({ cls := "ElephantEdge$Land", name := "wears", desc := "(I)V" } : Jvm.MethodName)) ∈ lw_all := lw_g (lw_at lw_m3 1 rfl) rfl
theorem q595 : (Jvm.Cond.methodLink "ElephantEdge" (352 : Nat) ({ cls := "ElephantEdge$Land", name := "without", desc := "(I)V" } : Jvm.MethodName)) ∈ lw_all := lw_g (lw_at lw_m3 5 rfl) rfl
theorem q599 : (Jvm.Cond.methodLink "ElephantEdge" (343 : Nat) ({ cls := "ElephantEdge", name := "foretells", desc := "(I)I" } : Jvm.MethodName)) ∈ lw_all := lw_g (lw_at lw_m3 9 rfl) rfl
theorem q600 : (Jvm.Cond.privateMethod ({ cls := "ElephantEdge", name := "foretells", desc := "(I)I" } : Jvm.MethodName)) ∈ lw_tbl := lw_at lw_m3 10 rfl
theorem q601 : (Jvm.Cond.instanceMethod ({ cls := "ElephantEdge", name := "foretells", desc := "(I)I" } : Jvm.MethodName)) ∈ lw_all := lw_g (lw_at lw_m3 11 rfl) rfl
theorem q602 : (Jvm.Cond.code ({ cls := "ElephantEdge", name := "foretells", desc := "(I)I" } : Jvm.MethodName) prog_1_method_34_code (4 : Nat) (Option.some Jvm.ClassFile.FieldType.int)) ∈ lw_all := lw_g (lw_at lw_m3 12 rfl) rfl
theorem q603 : (Jvm.Cond.methodLink "ElephantEdge" (355 : Nat) ({ cls := "java/lang/Math", name := "max", desc := "(II)I" } : Jvm.MethodName)) ∈ lw_all := lw_g (lw_at lw_m3 13 rfl) rfl
theorem q606 : (Jvm.Cond.classLink "ElephantEdge" (358 : Nat) "ElephantEdge$Claim") ∈ lw_all := lw_g (lw_at lw_m3 16 rfl) rfl
theorem q608 : (Jvm.Cond.methodLink "ElephantEdge" (360 : Nat) ({ cls := "ElephantEdge$Claim", name := "<init>", desc := "(III)V" } : Jvm.MethodName)) ∈ lw_all := lw_g (lw_at lw_m3 18 rfl) rfl
theorem q659 : (Jvm.Cond.selects "ElephantEdge" ({ cls := "java/lang/Object", name := "getClass", desc := "()Ljava/lang/Class;" } : Jvm.MethodName) ({ cls := "java/lang/Object", name := "getClass", desc := "()Ljava/lang/Class;" } : Jvm.MethodName)) ∈ lw_all := lw_g (lw_at lw_m3 69 rfl) rfl
theorem q697 : (Jvm.Cond.fieldLinkNest "ElephantEdge" (407 : Nat) "ElephantEdge$Claim" "family" "I" "ElephantEdge") ∈ lw_tbl := lw_at lw_m3 107 rfl
theorem q699 : (Jvm.Cond.fieldLinkNest "ElephantEdge" (409 : Nat) "ElephantEdge$Claim" "night" "I" "ElephantEdge") ∈ lw_tbl := lw_at lw_m3 109 rfl
theorem q701 : (Jvm.Cond.fieldLinkNest "ElephantEdge" (400 : Nat) "ElephantEdge$Claim" "rows" "Ljava/util/ArrayList;" "ElephantEdge") ∈ lw_tbl := lw_at lw_m3 111 rfl
theorem q703 : (Jvm.Cond.fieldLinkNest "ElephantEdge" (416 : Nat) "ElephantEdge$Claim" "paid" "I" "ElephantEdge") ∈ lw_tbl := lw_at lw_m3 113 rfl
theorem q713 : (Jvm.Cond.methodLink "ElephantEdge" (261 : Nat) ({ cls := "java/util/ArrayList", name := "add", desc := "(Ljava/lang/Object;)Z" } : Jvm.MethodName)) ∈ lw_all := lw_g (lw_at lw_m3 123 rfl) rfl
theorem q714 : (Jvm.Cond.methodLink "ElephantEdge" (361 : Nat) ({ cls := "ElephantEdge", name := "isTold", desc := "(I)Z" } : Jvm.MethodName)) ∈ lw_all := lw_g (lw_at lw_m3 124 rfl) rfl
theorem q715 : (Jvm.Cond.privateMethod ({ cls := "ElephantEdge", name := "isTold", desc := "(I)Z" } : Jvm.MethodName)) ∈ lw_tbl := lw_at lw_m3 125 rfl
theorem q716 : (Jvm.Cond.instanceMethod ({ cls := "ElephantEdge", name := "isTold", desc := "(I)Z" } : Jvm.MethodName)) ∈ lw_all := lw_g (lw_at lw_m3 126 rfl) rfl
theorem q717 : (Jvm.Cond.code ({ cls := "ElephantEdge", name := "isTold", desc := "(I)Z" } : Jvm.MethodName) prog_1_method_41_code (4 : Nat) (Option.some Jvm.ClassFile.FieldType.boolean)) ∈ lw_all := lw_g (lw_at lw_m3 127 rfl) rfl
theorem q719 : (Jvm.Cond.instanceMethod ({ cls := "ElephantEdge", name := "turn", desc := "(I)I" } : Jvm.MethodName)) ∈ lw_all := lw_g (lw_at lw_m3 129 rfl) rfl
theorem q720 : (Jvm.Cond.selects "ElephantEdge" ({ cls := "ElephantEdge", name := "turn", desc := "(I)I" } : Jvm.MethodName) ({ cls := "ElephantEdge", name := "turn", desc := "(I)I" } : Jvm.MethodName)) ∈ lw_all := lw_g (lw_at lw_m3 130 rfl) rfl
theorem q721 : (Jvm.Cond.code ({ cls := "ElephantEdge", name := "turn", desc := "(I)I" } : Jvm.MethodName) prog_1_method_44_code (5 : Nat) (Option.some Jvm.ClassFile.FieldType.int)) ∈ lw_all := lw_g (lw_at lw_m3 131 rfl) rfl
theorem q722 : (Jvm.Cond.methodLink "ElephantEdge" (364 : Nat) ({ cls := "ElephantEdge", name := "mayTurn", desc := "(I)Z" } : Jvm.MethodName)) ∈ lw_all := lw_g (lw_at lw_m3 132 rfl) rfl
theorem q723 : (Jvm.Cond.privateMethod ({ cls := "ElephantEdge", name := "mayTurn", desc := "(I)Z" } : Jvm.MethodName)) ∈ lw_tbl := lw_at lw_m3 133 rfl
theorem q724 : (Jvm.Cond.instanceMethod ({ cls := "ElephantEdge", name := "mayTurn", desc := "(I)Z" } : Jvm.MethodName)) ∈ lw_all := lw_g (lw_at lw_m3 134 rfl) rfl
theorem q725 : (Jvm.Cond.code ({ cls := "ElephantEdge", name := "mayTurn", desc := "(I)Z" } : Jvm.MethodName) prog_1_method_43_code (2 : Nat) (Option.some Jvm.ClassFile.FieldType.boolean)) ∈ lw_all := lw_g (lw_at lw_m3 135 rfl) rfl
theorem q727 : (Jvm.Cond.instanceMethod ({ cls := "ElephantEdge", name := "count", desc := "(I)I" } : Jvm.MethodName)) ∈ lw_all := lw_g (lw_at lw_m3 137 rfl) rfl
theorem q728 : (Jvm.Cond.selects "ElephantEdge" ({ cls := "ElephantEdge", name := "count", desc := "(I)I" } : Jvm.MethodName) ({ cls := "ElephantEdge", name := "count", desc := "(I)I" } : Jvm.MethodName)) ∈ lw_all := lw_g (lw_at lw_m3 138 rfl) rfl
theorem q729 : (Jvm.Cond.code ({ cls := "ElephantEdge", name := "count", desc := "(I)I" } : Jvm.MethodName) prog_1_method_84_code (4 : Nat) (Option.some Jvm.ClassFile.FieldType.int)) ∈ lw_all := lw_g (lw_at lw_m3 139 rfl) rfl
theorem q730 : (Jvm.Cond.methodLink "ElephantEdge" (372 : Nat) ({ cls := "ElephantEdge", name := "joined", desc := "()I" } : Jvm.MethodName)) ∈ lw_all := lw_g (lw_at lw_m3 140 rfl) rfl
theorem q731 : (Jvm.Cond.privateMethod ({ cls := "ElephantEdge", name := "joined", desc := "()I" } : Jvm.MethodName)) ∈ lw_tbl := lw_at lw_m3 141 rfl
theorem q732 : (Jvm.Cond.instanceMethod ({ cls := "ElephantEdge", name := "joined", desc := "()I" } : Jvm.MethodName)) ∈ lw_all := lw_g (lw_at lw_m3 142 rfl) rfl
theorem q733 : (Jvm.Cond.code ({ cls := "ElephantEdge", name := "joined", desc := "()I" } : Jvm.MethodName) prog_1_method_47_code (6 : Nat) (Option.some Jvm.ClassFile.FieldType.int)) ∈ lw_all := lw_g (lw_at lw_m3 143 rfl) rfl
theorem q818 : (Jvm.Cond.instanceMethod ({ cls := "ElephantEdge", name := "land", desc := "(II)I" } : Jvm.MethodName)) ∈ lw_all := lw_g (lw_at lw_m3 228 rfl) rfl
theorem q819 : (Jvm.Cond.selects "ElephantEdge" ({ cls := "ElephantEdge", name := "land", desc := "(II)I" } : Jvm.MethodName) ({ cls := "ElephantEdge", name := "land", desc := "(II)I" } : Jvm.MethodName)) ∈ lw_all := lw_g (lw_at lw_m3 229 rfl) rfl
theorem q820 : (Jvm.Cond.code ({ cls := "ElephantEdge", name := "land", desc := "(II)I" } : Jvm.MethodName) prog_1_method_16_code (3 : Nat) (Option.some Jvm.ClassFile.FieldType.int)) ∈ lw_all := lw_g (lw_at lw_m3 230 rfl) rfl
theorem q821 : (Jvm.Cond.methodLink "ElephantEdge" (170 : Nat) ({ cls := "ElephantEdge", name := "cell", desc := "(I)V" } : Jvm.MethodName)) ∈ lw_all := lw_g (lw_at lw_m3 231 rfl) rfl
theorem q822 : (Jvm.Cond.static ({ cls := "ElephantEdge", name := "cell", desc := "(I)V" } : Jvm.MethodName)) ∈ lw_all := lw_g (lw_at lw_m3 232 rfl) rfl
theorem q823 : (Jvm.Cond.code ({ cls := "ElephantEdge", name := "cell", desc := "(I)V" } : Jvm.MethodName) prog_1_method_10_code (1 : Nat) (Option.none : Option Jvm.ClassFile.FieldType)) ∈ lw_all := lw_g (lw_at lw_m3 233 rfl) rfl
theorem q824 : (Jvm.Cond.methodLink "ElephantEdge" (163 : Nat) ({ cls := "ElephantEdge", name := "in", desc := "(III)Z" } : Jvm.MethodName)) ∈ lw_all := lw_g (lw_at lw_m3 234 rfl) rfl
theorem q825 : (Jvm.Cond.static ({ cls := "ElephantEdge", name := "in", desc := "(III)Z" } : Jvm.MethodName)) ∈ lw_all := lw_g (lw_at lw_m3 235 rfl) rfl
theorem q826 : (Jvm.Cond.code ({ cls := "ElephantEdge", name := "in", desc := "(III)Z" } : Jvm.MethodName) prog_1_method_9_code (3 : Nat) (Option.some Jvm.ClassFile.FieldType.boolean)) ∈ lw_all := lw_g (lw_at lw_m3 236 rfl) rfl
theorem q827 : (Jvm.Cond.classLink "ElephantEdge" (167 : Nat) "java/lang/IndexOutOfBoundsException") ∈ lw_all := lw_g (lw_at lw_m3 237 rfl) rfl
theorem q836 : (Jvm.Cond.methodLink "ElephantEdge" (169 : Nat) ({ cls := "java/lang/IndexOutOfBoundsException", name := "<init>", desc := "()V" } : Jvm.MethodName)) ∈ lw_all := lw_g (lw_at lw_m4 6 rfl) rfl
theorem q848 : (Jvm.Cond.methodLink "ElephantEdge" (178 : Nat) ({ cls := "ElephantEdge", name := "wrong", desc := "(Z)V" } : Jvm.MethodName)) ∈ lw_all := lw_g (lw_at lw_m4 18 rfl) rfl
theorem q849 : (Jvm.Cond.static ({ cls := "ElephantEdge", name := "wrong", desc := "(Z)V" } : Jvm.MethodName)) ∈ lw_all := lw_g (lw_at lw_m4 19 rfl) rfl
theorem q850 : (Jvm.Cond.code ({ cls := "ElephantEdge", name := "wrong", desc := "(Z)V" } : Jvm.MethodName) prog_1_method_8_code (1 : Nat) (Option.none : Option Jvm.ClassFile.FieldType)) ∈ lw_all := lw_g (lw_at lw_m4 20 rfl) rfl
theorem q851 : (Jvm.Cond.classLink "ElephantEdge" (160 : Nat) "java/lang/IllegalArgumentException") ∈ lw_all := lw_g (lw_at lw_m4 21 rfl) rfl
theorem q860 : (Jvm.Cond.methodLink "ElephantEdge" (162 : Nat) ({ cls := "java/lang/IllegalArgumentException", name := "<init>", desc := "()V" } : Jvm.MethodName)) ∈ lw_all := lw_g (lw_at lw_m4 30 rfl) rfl
theorem q866 : (Jvm.Cond.methodLink "ElephantEdge" (209 : Nat) ({ cls := "ElephantEdge", name := "isHerds", desc := "(I)Z" } : Jvm.MethodName)) ∈ lw_all := lw_g (lw_at lw_m4 36 rfl) rfl
theorem q867 : (Jvm.Cond.privateMethod ({ cls := "ElephantEdge", name := "isHerds", desc := "(I)Z" } : Jvm.MethodName)) ∈ lw_tbl := lw_at lw_m4 37 rfl
theorem q868 : (Jvm.Cond.instanceMethod ({ cls := "ElephantEdge", name := "isHerds", desc := "(I)Z" } : Jvm.MethodName)) ∈ lw_all := lw_g (lw_at lw_m4 38 rfl) rfl
theorem q869 : (Jvm.Cond.code ({ cls := "ElephantEdge", name := "isHerds", desc := "(I)Z" } : Jvm.MethodName) prog_1_method_15_code (5 : Nat) (Option.some Jvm.ClassFile.FieldType.boolean)) ∈ lw_all := lw_g (lw_at lw_m4 39 rfl) rfl
theorem q870 : (Jvm.Cond.classLink "ElephantEdge" (213 : Nat) "java/lang/IllegalStateException") ∈ lw_all := lw_g (lw_at lw_m4 40 rfl) rfl
theorem q879 : (Jvm.Cond.methodLink "ElephantEdge" (215 : Nat) ({ cls := "java/lang/IllegalStateException", name := "<init>", desc := "()V" } : Jvm.MethodName)) ∈ lw_all := lw_g (lw_at lw_m4 49 rfl) rfl
theorem q885 : (Jvm.Cond.methodLink "ElephantEdge" (216 : Nat) ({ cls := "ElephantEdge", name := "was", desc := "(II)I" } : Jvm.MethodName)) ∈ lw_all := lw_g (lw_at lw_m4 55 rfl) rfl
theorem q886 : (Jvm.Cond.privateMethod ({ cls := "ElephantEdge", name := "was", desc := "(II)I" } : Jvm.MethodName)) ∈ lw_tbl := lw_at lw_m4 56 rfl
theorem q887 : (Jvm.Cond.instanceMethod ({ cls := "ElephantEdge", name := "was", desc := "(II)I" } : Jvm.MethodName)) ∈ lw_all := lw_g (lw_at lw_m4 57 rfl) rfl
theorem q888 : (Jvm.Cond.code ({ cls := "ElephantEdge", name := "was", desc := "(II)I" } : Jvm.MethodName) prog_1_method_14_code (4 : Nat) (Option.some Jvm.ClassFile.FieldType.int)) ∈ lw_all := lw_g (lw_at lw_m4 58 rfl) rfl
theorem q893 : (Jvm.Cond.instanceMethod ({ cls := "ElephantEdge", name := "field", desc := "(IIII)I" } : Jvm.MethodName)) ∈ lw_all := lw_g (lw_at lw_m4 63 rfl) rfl
theorem q894 : (Jvm.Cond.selects "ElephantEdge" ({ cls := "ElephantEdge", name := "field", desc := "(IIII)I" } : Jvm.MethodName) ({ cls := "ElephantEdge", name := "field", desc := "(IIII)I" } : Jvm.MethodName)) ∈ lw_all := lw_g (lw_at lw_m4 64 rfl) rfl
theorem q895 : (Jvm.Cond.code ({ cls := "ElephantEdge", name := "field", desc := "(IIII)I" } : Jvm.MethodName) prog_1_method_17_code (6 : Nat) (Option.some Jvm.ClassFile.FieldType.int)) ∈ lw_all := lw_g (lw_at lw_m4 65 rfl) rfl
theorem q896 : (Jvm.Cond.methodLink "ElephantEdge" (219 : Nat) ({ cls := "ElephantEdge", name := "family", desc := "(I)V" } : Jvm.MethodName)) ∈ lw_all := lw_g (lw_at lw_m4 66 rfl) rfl
theorem q897 : (Jvm.Cond.static ({ cls := "ElephantEdge", name := "family", desc := "(I)V" } : Jvm.MethodName)) ∈ lw_all := lw_g (lw_at lw_m4 67 rfl) rfl
theorem q898 : (Jvm.Cond.code ({ cls := "ElephantEdge", name := "family", desc := "(I)V" } : Jvm.MethodName) prog_1_method_12_code (1 : Nat) (Option.none : Option Jvm.ClassFile.FieldType)) ∈ lw_all := lw_g (lw_at lw_m4 68 rfl) rfl
theorem q903 : (Jvm.Cond.instanceMethod ({ cls := "ElephantEdge", name := "stalks", desc := "(I)I" } : Jvm.MethodName)) ∈ lw_all := lw_g (lw_at lw_m4 73 rfl) rfl
theorem q904 : (Jvm.Cond.selects "ElephantEdge" ({ cls := "ElephantEdge", name := "stalks", desc := "(I)I" } : Jvm.MethodName) ({ cls := "ElephantEdge", name := "stalks", desc := "(I)I" } : Jvm.MethodName)) ∈ lw_all := lw_g (lw_at lw_m4 74 rfl) rfl
theorem q905 : (Jvm.Cond.code ({ cls := "ElephantEdge", name := "stalks", desc := "(I)I" } : Jvm.MethodName) prog_1_method_18_code (2 : Nat) (Option.some Jvm.ClassFile.FieldType.int)) ∈ lw_all := lw_g (lw_at lw_m4 75 rfl) rfl
theorem q910 : (Jvm.Cond.instanceMethod ({ cls := "ElephantEdge", name := "village", desc := "(II)I" } : Jvm.MethodName)) ∈ lw_all := lw_g (lw_at lw_m4 80 rfl) rfl
theorem q911 : (Jvm.Cond.selects "ElephantEdge" ({ cls := "ElephantEdge", name := "village", desc := "(II)I" } : Jvm.MethodName) ({ cls := "ElephantEdge", name := "village", desc := "(II)I" } : Jvm.MethodName)) ∈ lw_all := lw_g (lw_at lw_m4 81 rfl) rfl
theorem q912 : (Jvm.Cond.code ({ cls := "ElephantEdge", name := "village", desc := "(II)I" } : Jvm.MethodName) prog_1_method_19_code (4 : Nat) (Option.some Jvm.ClassFile.FieldType.int)) ∈ lw_all := lw_g (lw_at lw_m4 82 rfl) rfl
theorem q917 : (Jvm.Cond.instanceMethod ({ cls := "ElephantEdge", name := "fence", desc := "(IIII)I" } : Jvm.MethodName)) ∈ lw_all := lw_g (lw_at lw_m4 87 rfl) rfl
theorem q918 : (Jvm.Cond.selects "ElephantEdge" ({ cls := "ElephantEdge", name := "fence", desc := "(IIII)I" } : Jvm.MethodName) ({ cls := "ElephantEdge", name := "fence", desc := "(IIII)I" } : Jvm.MethodName)) ∈ lw_all := lw_g (lw_at lw_m4 88 rfl) rfl
theorem q919 : (Jvm.Cond.code ({ cls := "ElephantEdge", name := "fence", desc := "(IIII)I" } : Jvm.MethodName) prog_1_method_20_code (6 : Nat) (Option.some Jvm.ClassFile.FieldType.int)) ∈ lw_all := lw_g (lw_at lw_m4 89 rfl) rfl
theorem q920 : (Jvm.Cond.methodLink "ElephantEdge" (227 : Nat) ({ cls := "ElephantEdge", name := "edge", desc := "(II)V" } : Jvm.MethodName)) ∈ lw_all := lw_g (lw_at lw_m4 90 rfl) rfl
theorem q921 : (Jvm.Cond.static ({ cls := "ElephantEdge", name := "edge", desc := "(II)V" } : Jvm.MethodName)) ∈ lw_all := lw_g (lw_at lw_m4 91 rfl) rfl
theorem q922 : (Jvm.Cond.code ({ cls := "ElephantEdge", name := "edge", desc := "(II)V" } : Jvm.MethodName) prog_1_method_11_code (2 : Nat) (Option.none : Option Jvm.ClassFile.FieldType)) ∈ lw_all := lw_g (lw_at lw_m4 92 rfl) rfl
theorem q923 : (Jvm.Cond.methodLink "ElephantEdge" (174 : Nat) ({ cls := "ElephantEdge", name := "isBeside", desc := "(II)Z" } : Jvm.MethodName)) ∈ lw_all := lw_g (lw_at lw_m4 93 rfl) rfl
theorem q924 : (Jvm.Cond.static ({ cls := "ElephantEdge", name := "isBeside", desc := "(II)Z" } : Jvm.MethodName)) ∈ lw_all := lw_g (lw_at lw_m4 94 rfl) rfl
theorem q925 : (Jvm.Cond.code ({ cls := "ElephantEdge", name := "isBeside", desc := "(II)Z" } : Jvm.MethodName) prog_1_method_5_code (4 : Nat) (Option.some Jvm.ClassFile.FieldType.boolean)) ∈ lw_all := lw_g (lw_at lw_m4 95 rfl) rfl
theorem q926 : (Jvm.Cond.methodLink "ElephantEdge" (21 : Nat) ({ cls := "ElephantEdge", name := "next", desc := "(II)I" } : Jvm.MethodName)) ∈ lw_all := lw_g (lw_at lw_m4 96 rfl) rfl
theorem q927 : (Jvm.Cond.methodLink "ElephantEdge" (231 : Nat) ({ cls := "ElephantEdge$Land", name := "fence", desc := "(II)I" } : Jvm.MethodName)) ∈ lw_all := lw_g (lw_at lw_m4 97 rfl) rfl
theorem q928 : (Jvm.Cond.methodLink "ElephantEdge" (237 : Nat) ({ cls := "ElephantEdge$Land", name := "builder", desc := "(III)V" } : Jvm.MethodName)) ∈ lw_all := lw_g (lw_at lw_m4 98 rfl) rfl
theorem q936 : (Jvm.Cond.instanceMethod ({ cls := "ElephantEdge", name := "fenced", desc := "(II)I" } : Jvm.MethodName)) ∈ lw_all := lw_g (lw_at lw_m4 106 rfl) rfl
theorem q937 : (Jvm.Cond.selects "ElephantEdge" ({ cls := "ElephantEdge", name := "fenced", desc := "(II)I" } : Jvm.MethodName) ({ cls := "ElephantEdge", name := "fenced", desc := "(II)I" } : Jvm.MethodName)) ∈ lw_all := lw_g (lw_at lw_m4 107 rfl) rfl
theorem q938 : (Jvm.Cond.code ({ cls := "ElephantEdge", name := "fenced", desc := "(II)I" } : Jvm.MethodName) prog_1_method_21_code (3 : Nat) (Option.some Jvm.ClassFile.FieldType.int)) ∈ lw_all := lw_g (lw_at lw_m4 108 rfl) rfl
theorem q943 : (Jvm.Cond.instanceMethod ({ cls := "ElephantEdge", name := "fear", desc := "(I)I" } : Jvm.MethodName)) ∈ lw_all := lw_g (lw_at lw_m4 113 rfl) rfl
theorem q944 : (Jvm.Cond.selects "ElephantEdge" ({ cls := "ElephantEdge", name := "fear", desc := "(I)I" } : Jvm.MethodName) ({ cls := "ElephantEdge", name := "fear", desc := "(I)I" } : Jvm.MethodName)) ∈ lw_all := lw_g (lw_at lw_m4 114 rfl) rfl
theorem q945 : (Jvm.Cond.code ({ cls := "ElephantEdge", name := "fear", desc := "(I)I" } : Jvm.MethodName) prog_1_method_22_code (2 : Nat) (Option.some Jvm.ClassFile.FieldType.int)) ∈ lw_all := lw_g (lw_at lw_m4 115 rfl) rfl
theorem q950 : (Jvm.Cond.instanceMethod ({ cls := "ElephantEdge", name := "rule", desc := "(I)I" } : Jvm.MethodName)) ∈ lw_all := lw_g (lw_at lw_m4 120 rfl) rfl
theorem q951 : (Jvm.Cond.selects "ElephantEdge" ({ cls := "ElephantEdge", name := "rule", desc := "(I)I" } : Jvm.MethodName) ({ cls := "ElephantEdge", name := "rule", desc := "(I)I" } : Jvm.MethodName)) ∈ lw_all := lw_g (lw_at lw_m4 121 rfl) rfl
theorem q952 : (Jvm.Cond.codeWith ({ cls := "ElephantEdge", name := "rule", desc := "(I)I" } : Jvm.MethodName) prog_1_method_24_code (4 : Nat) (Option.some Jvm.ClassFile.FieldType.int) [((35 : Nat), (39 : Nat), (42 : Nat), (249 : Nat))]) ∈ lw_all := lw_g (lw_at lw_m4 122 rfl) rfl
theorem q953 : (Jvm.Cond.classLink "ElephantEdge" (249 : Nat) "ElephantEdge$Wrong") ∈ lw_all := lw_g (lw_at lw_m4 123 rfl) rfl
theorem q954 : (Jvm.Cond.methodLink "ElephantEdge" (246 : Nat) ({ cls := "ElephantEdge$Rule", name := "read", desc := "()V" } : Jvm.MethodName)) ∈ lw_all := lw_g (lw_at lw_m4 124 rfl) rfl
theorem q1045 : (Jvm.Cond.static ({ cls := "ElephantEdge", name := "cropName", desc := "(I)Ljava/lang/String;" } : Jvm.MethodName)) ∈ lw_all := lw_g (lw_at lw_m4 215 rfl) rfl
theorem q1046 : (Jvm.Cond.code ({ cls := "ElephantEdge", name := "cropName", desc := "(I)Ljava/lang/String;" } : Jvm.MethodName) prog_1_method_2_code (1 : Nat) (Option.some (Jvm.ClassFile.FieldType.object "java/lang/String"))) ∈ lw_all := lw_g (lw_at lw_m4 216 rfl) rfl
theorem q1047 : (Jvm.Cond.stringRef "ElephantEdge" (1 : Nat) "maize") ∈ lw_tbl := lw_at lw_m4 217 rfl
theorem q1048 : (Jvm.Cond.stringRef "ElephantEdge" (3 : Nat) "millet") ∈ lw_tbl := lw_at lw_m4 218 rfl
theorem q1049 : (Jvm.Cond.stringRef "ElephantEdge" (5 : Nat) "beans") ∈ lw_tbl := lw_at lw_m4 219 rfl
theorem q1050 : (Jvm.Cond.stringRef "ElephantEdge" (7 : Nat) "melon") ∈ lw_tbl := lw_at lw_m4 220 rfl
theorem q1056 : (Jvm.Cond.static ({ cls := "ElephantEdge", name := "isDigit", desc := "(I)Z" } : Jvm.MethodName)) ∈ lw_all := lw_g (lw_at lw_m4 226 rfl) rfl
theorem q1057 : (Jvm.Cond.code ({ cls := "ElephantEdge", name := "isDigit", desc := "(I)Z" } : Jvm.MethodName) prog_1_method_1_code (1 : Nat) (Option.some Jvm.ClassFile.FieldType.boolean)) ∈ lw_all := lw_g (lw_at lw_m4 227 rfl) rfl
theorem q1076 : (Jvm.Cond.static ({ cls := "ElephantEdge", name := "toldName", desc := "(I)Ljava/lang/String;" } : Jvm.MethodName)) ∈ lw_all := lw_g (lw_at lw_m5 6 rfl) rfl
theorem q1077 : (Jvm.Cond.code ({ cls := "ElephantEdge", name := "toldName", desc := "(I)Ljava/lang/String;" } : Jvm.MethodName) prog_1_method_3_code (1 : Nat) (Option.some (Jvm.ClassFile.FieldType.object "java/lang/String"))) ∈ lw_all := lw_g (lw_at lw_m5 7 rfl) rfl
theorem q1078 : (Jvm.Cond.stringRef "ElephantEdge" (9 : Nat) "lost") ∈ lw_tbl := lw_at lw_m5 8 rfl
theorem q1079 : (Jvm.Cond.stringRef "ElephantEdge" (11 : Nat) "judged") ∈ lw_tbl := lw_at lw_m5 9 rfl
theorem q1080 : (Jvm.Cond.stringRef "ElephantEdge" (13 : Nat) "month") ∈ lw_tbl := lw_at lw_m5 10 rfl
theorem q1081 : (Jvm.Cond.stringRef "ElephantEdge" (15 : Nat) "fund") ∈ lw_tbl := lw_at lw_m5 11 rfl
theorem q1082 : (Jvm.Cond.stringRef "ElephantEdge" (17 : Nat) "late") ∈ lw_tbl := lw_at lw_m5 12 rfl
theorem q1144 : (Jvm.Cond.instanceMethod ({ cls := "ElephantEdge", name := "like", desc := "(II)I" } : Jvm.MethodName)) ∈ lw_all := lw_g (lw_at lw_m5 74 rfl) rfl
theorem q1145 : (Jvm.Cond.selects "ElephantEdge" ({ cls := "ElephantEdge", name := "like", desc := "(II)I" } : Jvm.MethodName) ({ cls := "ElephantEdge", name := "like", desc := "(II)I" } : Jvm.MethodName)) ∈ lw_all := lw_g (lw_at lw_m5 75 rfl) rfl
theorem q1146 : (Jvm.Cond.code ({ cls := "ElephantEdge", name := "like", desc := "(II)I" } : Jvm.MethodName) prog_1_method_25_code (3 : Nat) (Option.some Jvm.ClassFile.FieldType.int)) ∈ lw_all := lw_g (lw_at lw_m5 76 rfl) rfl
theorem q1151 : (Jvm.Cond.instanceMethod ({ cls := "ElephantEdge", name := "herd", desc := "(III)I" } : Jvm.MethodName)) ∈ lw_all := lw_g (lw_at lw_m5 81 rfl) rfl
theorem q1152 : (Jvm.Cond.selects "ElephantEdge" ({ cls := "ElephantEdge", name := "herd", desc := "(III)I" } : Jvm.MethodName) ({ cls := "ElephantEdge", name := "herd", desc := "(III)I" } : Jvm.MethodName)) ∈ lw_all := lw_g (lw_at lw_m5 82 rfl) rfl
theorem q1153 : (Jvm.Cond.code ({ cls := "ElephantEdge", name := "herd", desc := "(III)I" } : Jvm.MethodName) prog_1_method_26_code (4 : Nat) (Option.some Jvm.ClassFile.FieldType.int)) ∈ lw_all := lw_g (lw_at lw_m5 83 rfl) rfl
theorem q1155 : (Jvm.Cond.methodLink "ElephantEdge" (259 : Nat) ({ cls := "ElephantEdge$Herd", name := "<init>", desc := "(III)V" } : Jvm.MethodName)) ∈ lw_all := lw_g (lw_at lw_m5 85 rfl) rfl
theorem q1160 : (Jvm.Cond.fieldLinkNest "ElephantEdge" (199 : Nat) "ElephantEdge$Herd" "home" "I" "ElephantEdge") ∈ lw_tbl := lw_at lw_m5 90 rfl
theorem q1162 : (Jvm.Cond.fieldLinkNest "ElephantEdge" (308 : Nat) "ElephantEdge$Herd" "hunger" "I" "ElephantEdge") ∈ lw_tbl := lw_at lw_m5 92 rfl
theorem q1164 : (Jvm.Cond.fieldLinkNest "ElephantEdge" (437 : Nat) "ElephantEdge$Herd" "speed" "I" "ElephantEdge") ∈ lw_tbl := lw_at lw_m5 94 rfl
theorem q1166 : (Jvm.Cond.fieldLinkNest "ElephantEdge" (434 : Nat) "ElephantEdge$Herd" "hours" "[I" "ElephantEdge") ∈ lw_tbl := lw_at lw_m5 96 rfl
theorem q1168 : (Jvm.Cond.fieldLinkNest "ElephantEdge" (206 : Nat) "ElephantEdge$Herd" "at" "[I" "ElephantEdge") ∈ lw_tbl := lw_at lw_m5 98 rfl
theorem q1169 : (Jvm.Cond.fieldLinkNest "ElephantEdge" (203 : Nat) "ElephantEdge$Herd" "fixes" "I" "ElephantEdge") ∈ lw_tbl := lw_at lw_m5 99 rfl
theorem q1188 : (Jvm.Cond.instanceMethod ({ cls := "ElephantEdge", name := "cost", desc := "(II)I" } : Jvm.MethodName)) ∈ lw_all := lw_g (lw_at lw_m5 118 rfl) rfl
theorem q1189 : (Jvm.Cond.selects "ElephantEdge" ({ cls := "ElephantEdge", name := "cost", desc := "(II)I" } : Jvm.MethodName) ({ cls := "ElephantEdge", name := "cost", desc := "(II)I" } : Jvm.MethodName)) ∈ lw_all := lw_g (lw_at lw_m5 119 rfl) rfl
theorem q1190 : (Jvm.Cond.code ({ cls := "ElephantEdge", name := "cost", desc := "(II)I" } : Jvm.MethodName) prog_1_method_28_code (4 : Nat) (Option.some Jvm.ClassFile.FieldType.int)) ∈ lw_all := lw_g (lw_at lw_m5 120 rfl) rfl
theorem q1191 : (Jvm.Cond.methodLink "ElephantEdge" (268 : Nat) ({ cls := "ElephantEdge", name := "herdAt", desc := "(I)LElephantEdge$Herd;" } : Jvm.MethodName)) ∈ lw_all := lw_g (lw_at lw_m5 121 rfl) rfl
theorem q1192 : (Jvm.Cond.privateMethod ({ cls := "ElephantEdge", name := "herdAt", desc := "(I)LElephantEdge$Herd;" } : Jvm.MethodName)) ∈ lw_tbl := lw_at lw_m5 122 rfl
theorem q1193 : (Jvm.Cond.instanceMethod ({ cls := "ElephantEdge", name := "herdAt", desc := "(I)LElephantEdge$Herd;" } : Jvm.MethodName)) ∈ lw_all := lw_g (lw_at lw_m5 123 rfl) rfl
theorem q1194 : (Jvm.Cond.code ({ cls := "ElephantEdge", name := "herdAt", desc := "(I)LElephantEdge$Herd;" } : Jvm.MethodName) prog_1_method_27_code (2 : Nat) (Option.some (Jvm.ClassFile.FieldType.object "ElephantEdge$Herd"))) ∈ lw_all := lw_g (lw_at lw_m5 124 rfl) rfl
theorem q1195 : (Jvm.Cond.classLink "ElephantEdge" (265 : Nat) "java/util/NoSuchElementException") ∈ lw_all := lw_g (lw_at lw_m5 125 rfl) rfl
theorem q1204 : (Jvm.Cond.methodLink "ElephantEdge" (267 : Nat) ({ cls := "java/util/NoSuchElementException", name := "<init>", desc := "()V" } : Jvm.MethodName)) ∈ lw_all := lw_g (lw_at lw_m5 134 rfl) rfl
theorem q1214 : (Jvm.Cond.instanceMethod ({ cls := "ElephantEdge", name := "way", desc := "(III)I" } : Jvm.MethodName)) ∈ lw_all := lw_g (lw_at lw_m5 144 rfl) rfl
theorem q1215 : (Jvm.Cond.selects "ElephantEdge" ({ cls := "ElephantEdge", name := "way", desc := "(III)I" } : Jvm.MethodName) ({ cls := "ElephantEdge", name := "way", desc := "(III)I" } : Jvm.MethodName)) ∈ lw_all := lw_g (lw_at lw_m5 145 rfl) rfl
theorem q1216 : (Jvm.Cond.code ({ cls := "ElephantEdge", name := "way", desc := "(III)I" } : Jvm.MethodName) prog_1_method_29_code (5 : Nat) (Option.some Jvm.ClassFile.FieldType.int)) ∈ lw_all := lw_g (lw_at lw_m5 146 rfl) rfl
theorem q1221 : (Jvm.Cond.instanceMethod ({ cls := "ElephantEdge", name := "foretold", desc := "(II)I" } : Jvm.MethodName)) ∈ lw_all := lw_g (lw_at lw_m5 151 rfl) rfl
theorem q1222 : (Jvm.Cond.selects "ElephantEdge" ({ cls := "ElephantEdge", name := "foretold", desc := "(II)I" } : Jvm.MethodName) ({ cls := "ElephantEdge", name := "foretold", desc := "(II)I" } : Jvm.MethodName)) ∈ lw_all := lw_g (lw_at lw_m5 152 rfl) rfl
theorem q1223 : (Jvm.Cond.code ({ cls := "ElephantEdge", name := "foretold", desc := "(II)I" } : Jvm.MethodName) prog_1_method_36_code (4 : Nat) (Option.some Jvm.ClassFile.FieldType.int)) ∈ lw_all := lw_g (lw_at lw_m5 153 rfl) rfl
theorem q1224 : (Jvm.Cond.methodLink "ElephantEdge" (338 : Nat) ({ cls := "ElephantEdge", name := "some", desc := "(I)V" } : Jvm.MethodName)) ∈ lw_all := lw_g (lw_at lw_m5 154 rfl) rfl
theorem q1225 : (Jvm.Cond.static ({ cls := "ElephantEdge", name := "some", desc := "(I)V" } : Jvm.MethodName)) ∈ lw_all := lw_g (lw_at lw_m5 155 rfl) rfl
theorem q1226 : (Jvm.Cond.code ({ cls := "ElephantEdge", name := "some", desc := "(I)V" } : Jvm.MethodName) prog_1_method_35_code (1 : Nat) (Option.none : Option Jvm.ClassFile.FieldType)) ∈ lw_all := lw_g (lw_at lw_m5 156 rfl) rfl
theorem q1231 : (Jvm.Cond.instanceMethod ({ cls := "ElephantEdge", name := "pushed", desc := "(III)I" } : Jvm.MethodName)) ∈ lw_all := lw_g (lw_at lw_m5 161 rfl) rfl
theorem q1232 : (Jvm.Cond.selects "ElephantEdge" ({ cls := "ElephantEdge", name := "pushed", desc := "(III)I" } : Jvm.MethodName) ({ cls := "ElephantEdge", name := "pushed", desc := "(III)I" } : Jvm.MethodName)) ∈ lw_all := lw_g (lw_at lw_m5 162 rfl) rfl
theorem q1233 : (Jvm.Cond.code ({ cls := "ElephantEdge", name := "pushed", desc := "(III)I" } : Jvm.MethodName) prog_1_method_37_code (5 : Nat) (Option.some Jvm.ClassFile.FieldType.int)) ∈ lw_all := lw_g (lw_at lw_m5 163 rfl) rfl
theorem q1238 : (Jvm.Cond.instanceMethod ({ cls := "ElephantEdge", name := "build", desc := "(II)I" } : Jvm.MethodName)) ∈ lw_all := lw_g (lw_at lw_m5 168 rfl) rfl
theorem q1239 : (Jvm.Cond.selects "ElephantEdge" ({ cls := "ElephantEdge", name := "build", desc := "(II)I" } : Jvm.MethodName) ({ cls := "ElephantEdge", name := "build", desc := "(II)I" } : Jvm.MethodName)) ∈ lw_all := lw_g (lw_at lw_m5 169 rfl) rfl
theorem q1240 : (Jvm.Cond.code ({ cls := "ElephantEdge", name := "build", desc := "(II)I" } : Jvm.MethodName) prog_1_method_38_code (12 : Nat) (Option.some Jvm.ClassFile.FieldType.int)) ∈ lw_all := lw_g (lw_at lw_m5 170 rfl) rfl
theorem q1241 : (Jvm.Cond.methodLink "ElephantEdge" (346 : Nat) ({ cls := "ElephantEdge$Land", name := "ripe", desc := "([I)I" } : Jvm.MethodName)) ∈ lw_all := lw_g (lw_at lw_m5 171 rfl) rfl
theorem q1246 : (Jvm.Cond.methodLink "ElephantEdge" (349 : Nat) ({ cls := "ElephantEdge$Land", name := "isOpen", desc := "(I)Z" } : Jvm.MethodName)) ∈ lw_all := lw_g (lw_at lw_m5 176 rfl) rfl
theorem q1251 : (Jvm.Cond.instanceMethod ({ cls := "ElephantEdge", name := "debt", desc := "(I)I" } : Jvm.MethodName)) ∈ lw_all := lw_g (lw_at lw_m5 181 rfl) rfl
theorem q1252 : (Jvm.Cond.selects "ElephantEdge" ({ cls := "ElephantEdge", name := "debt", desc := "(I)I" } : Jvm.MethodName) ({ cls := "ElephantEdge", name := "debt", desc := "(I)I" } : Jvm.MethodName)) ∈ lw_all := lw_g (lw_at lw_m5 182 rfl) rfl
theorem q1253 : (Jvm.Cond.code ({ cls := "ElephantEdge", name := "debt", desc := "(I)I" } : Jvm.MethodName) prog_1_method_40_code (2 : Nat) (Option.some Jvm.ClassFile.FieldType.int)) ∈ lw_all := lw_g (lw_at lw_m5 183 rfl) rfl
theorem q1258 : (Jvm.Cond.instanceMethod ({ cls := "ElephantEdge", name := "watch", desc := "(II)I" } : Jvm.MethodName)) ∈ lw_all := lw_g (lw_at lw_m5 188 rfl) rfl
theorem q1259 : (Jvm.Cond.selects "ElephantEdge" ({ cls := "ElephantEdge", name := "watch", desc := "(II)I" } : Jvm.MethodName) ({ cls := "ElephantEdge", name := "watch", desc := "(II)I" } : Jvm.MethodName)) ∈ lw_all := lw_g (lw_at lw_m5 189 rfl) rfl
theorem q1260 : (Jvm.Cond.code ({ cls := "ElephantEdge", name := "watch", desc := "(II)I" } : Jvm.MethodName) prog_1_method_42_code (3 : Nat) (Option.some Jvm.ClassFile.FieldType.int)) ∈ lw_all := lw_g (lw_at lw_m5 190 rfl) rfl
theorem q1265 : (Jvm.Cond.instanceMethod ({ cls := "ElephantEdge", name := "watched", desc := "(I)I" } : Jvm.MethodName)) ∈ lw_all := lw_g (lw_at lw_m5 195 rfl) rfl
theorem q1266 : (Jvm.Cond.selects "ElephantEdge" ({ cls := "ElephantEdge", name := "watched", desc := "(I)I" } : Jvm.MethodName) ({ cls := "ElephantEdge", name := "watched", desc := "(I)I" } : Jvm.MethodName)) ∈ lw_all := lw_g (lw_at lw_m5 196 rfl) rfl
theorem q1267 : (Jvm.Cond.code ({ cls := "ElephantEdge", name := "watched", desc := "(I)I" } : Jvm.MethodName) prog_1_method_45_code (2 : Nat) (Option.some Jvm.ClassFile.FieldType.int)) ∈ lw_all := lw_g (lw_at lw_m5 197 rfl) rfl
theorem q1272 : (Jvm.Cond.instanceMethod ({ cls := "ElephantEdge", name := "post", desc := "(II)I" } : Jvm.MethodName)) ∈ lw_all := lw_g (lw_at lw_m5 202 rfl) rfl
theorem q1273 : (Jvm.Cond.selects "ElephantEdge" ({ cls := "ElephantEdge", name := "post", desc := "(II)I" } : Jvm.MethodName) ({ cls := "ElephantEdge", name := "post", desc := "(II)I" } : Jvm.MethodName)) ∈ lw_all := lw_g (lw_at lw_m5 203 rfl) rfl
theorem q1274 : (Jvm.Cond.code ({ cls := "ElephantEdge", name := "post", desc := "(II)I" } : Jvm.MethodName) prog_1_method_46_code (10 : Nat) (Option.some Jvm.ClassFile.FieldType.int)) ∈ lw_all := lw_g (lw_at lw_m5 204 rfl) rfl
theorem q1275 : (Jvm.Cond.methodLink "ElephantEdge" (367 : Nat) ({ cls := "java/lang/Integer", name := "bitCount", desc := "(I)I" } : Jvm.MethodName)) ∈ lw_all := lw_g (lw_at lw_m5 205 rfl) rfl
theorem q1285 : (Jvm.Cond.instanceMethod ({ cls := "ElephantEdge", name := "join", desc := "(IZ)I" } : Jvm.MethodName)) ∈ lw_all := lw_g (lw_at lw_m5 215 rfl) rfl
theorem q1286 : (Jvm.Cond.selects "ElephantEdge" ({ cls := "ElephantEdge", name := "join", desc := "(IZ)I" } : Jvm.MethodName) ({ cls := "ElephantEdge", name := "join", desc := "(IZ)I" } : Jvm.MethodName)) ∈ lw_all := lw_g (lw_at lw_m5 216 rfl) rfl
theorem q1287 : (Jvm.Cond.code ({ cls := "ElephantEdge", name := "join", desc := "(IZ)I" } : Jvm.MethodName) prog_1_method_48_code (3 : Nat) (Option.some Jvm.ClassFile.FieldType.int)) ∈ lw_all := lw_g (lw_at lw_m5 217 rfl) rfl
theorem q1292 : (Jvm.Cond.instanceMethod ({ cls := "ElephantEdge", name := "away", desc := "(IIZ)Z" } : Jvm.MethodName)) ∈ lw_all := lw_g (lw_at lw_m5 222 rfl) rfl
theorem q1293 : (Jvm.Cond.selects "ElephantEdge" ({ cls := "ElephantEdge", name := "away", desc := "(IIZ)Z" } : Jvm.MethodName) ({ cls := "ElephantEdge", name := "away", desc := "(IIZ)Z" } : Jvm.MethodName)) ∈ lw_all := lw_g (lw_at lw_m5 223 rfl) rfl
theorem q1294 : (Jvm.Cond.code ({ cls := "ElephantEdge", name := "away", desc := "(IIZ)Z" } : Jvm.MethodName) prog_1_method_50_code (5 : Nat) (Option.some Jvm.ClassFile.FieldType.boolean)) ∈ lw_all := lw_g (lw_at lw_m5 224 rfl) rfl
theorem q1299 : (Jvm.Cond.instanceMethod ({ cls := "ElephantEdge", name := "rota", desc := "(IIII)I" } : Jvm.MethodName)) ∈ lw_all := lw_g (lw_at lw_m5 229 rfl) rfl
theorem q1300 : (Jvm.Cond.selects "ElephantEdge" ({ cls := "ElephantEdge", name := "rota", desc := "(IIII)I" } : Jvm.MethodName) ({ cls := "ElephantEdge", name := "rota", desc := "(IIII)I" } : Jvm.MethodName)) ∈ lw_all := lw_g (lw_at lw_m5 230 rfl) rfl
theorem q1301 : (Jvm.Cond.code ({ cls := "ElephantEdge", name := "rota", desc := "(IIII)I" } : Jvm.MethodName) prog_1_method_52_code (8 : Nat) (Option.some Jvm.ClassFile.FieldType.int)) ∈ lw_all := lw_g (lw_at lw_m5 231 rfl) rfl
theorem q1302 : (Jvm.Cond.methodLink "ElephantEdge" (375 : Nat) ({ cls := "ElephantEdge", name := "nights", desc := "(II)V" } : Jvm.MethodName)) ∈ lw_all := lw_g (lw_at lw_m5 232 rfl) rfl
theorem q1303 : (Jvm.Cond.static ({ cls := "ElephantEdge", name := "nights", desc := "(II)V" } : Jvm.MethodName)) ∈ lw_all := lw_g (lw_at lw_m5 233 rfl) rfl
theorem q1304 : (Jvm.Cond.code ({ cls := "ElephantEdge", name := "nights", desc := "(II)V" } : Jvm.MethodName) prog_1_method_51_code (2 : Nat) (Option.none : Option Jvm.ClassFile.FieldType)) ∈ lw_all := lw_g (lw_at lw_m5 234 rfl) rfl
theorem q1305 : (Jvm.Cond.classLink "ElephantEdge" (378 : Nat) "ElephantEdge$Rota") ∈ lw_all := lw_g (lw_at lw_m5 235 rfl) rfl
theorem q1307 : (Jvm.Cond.methodLink "ElephantEdge" (380 : Nat) ({ cls := "ElephantEdge$Rota", name := "<init>", desc := "(LElephantEdge;II)V" } : Jvm.MethodName)) ∈ lw_all := lw_g (lw_at lw_m5 237 rfl) rfl
theorem q1327 : (Jvm.Cond.privateMethod ({ cls := "ElephantEdge", name := "isAway", desc := "(II)Z" } : Jvm.MethodName)) ∈ lw_tbl := lw_at lw_m6 17 rfl
theorem q1328 : (Jvm.Cond.instanceMethod ({ cls := "ElephantEdge", name := "isAway", desc := "(II)Z" } : Jvm.MethodName)) ∈ lw_all := lw_g (lw_at lw_m6 18 rfl) rfl
theorem q1329 : (Jvm.Cond.code ({ cls := "ElephantEdge", name := "isAway", desc := "(II)Z" } : Jvm.MethodName) prog_1_method_49_code (3 : Nat) (Option.some Jvm.ClassFile.FieldType.boolean)) ∈ lw_all := lw_g (lw_at lw_m6 19 rfl) rfl
theorem q1338 : (Jvm.Cond.fieldLinkNest "ElephantEdge" (387 : Nat) "ElephantEdge$Rota" "best" "[I" "ElephantEdge") ∈ lw_tbl := lw_at lw_m6 28 rfl
theorem q1342 : (Jvm.Cond.fieldLinkNest "ElephantEdge" (390 : Nat) "ElephantEdge$Rota" "squares" "I" "ElephantEdge") ∈ lw_tbl := lw_at lw_m6 32 rfl
theorem q1344 : (Jvm.Cond.fieldLinkNest "ElephantEdge" (383 : Nat) "ElephantEdge$Rota" "isThere" "Z" "ElephantEdge") ∈ lw_tbl := lw_at lw_m6 34 rfl
theorem q1372 : (Jvm.Cond.instanceMethod ({ cls := "ElephantEdge", name := "loads", desc := "(II)I" } : Jvm.MethodName)) ∈ lw_all := lw_g (lw_at lw_m6 62 rfl) rfl
theorem q1373 : (Jvm.Cond.selects "ElephantEdge" ({ cls := "ElephantEdge", name := "loads", desc := "(II)I" } : Jvm.MethodName) ({ cls := "ElephantEdge", name := "loads", desc := "(II)I" } : Jvm.MethodName)) ∈ lw_all := lw_g (lw_at lw_m6 63 rfl) rfl
theorem q1374 : (Jvm.Cond.code ({ cls := "ElephantEdge", name := "loads", desc := "(II)I" } : Jvm.MethodName) prog_1_method_53_code (4 : Nat) (Option.some Jvm.ClassFile.FieldType.int)) ∈ lw_all := lw_g (lw_at lw_m6 64 rfl) rfl
theorem q1379 : (Jvm.Cond.instanceMethod ({ cls := "ElephantEdge", name := "find", desc := "(II)I" } : Jvm.MethodName)) ∈ lw_all := lw_g (lw_at lw_m6 69 rfl) rfl
theorem q1380 : (Jvm.Cond.selects "ElephantEdge" ({ cls := "ElephantEdge", name := "find", desc := "(II)I" } : Jvm.MethodName) ({ cls := "ElephantEdge", name := "find", desc := "(II)I" } : Jvm.MethodName)) ∈ lw_all := lw_g (lw_at lw_m6 70 rfl) rfl
theorem q1381 : (Jvm.Cond.code ({ cls := "ElephantEdge", name := "find", desc := "(II)I" } : Jvm.MethodName) prog_1_method_55_code (4 : Nat) (Option.some Jvm.ClassFile.FieldType.int)) ∈ lw_all := lw_g (lw_at lw_m6 71 rfl) rfl
theorem q1382 : (Jvm.Cond.methodLink "ElephantEdge" (393 : Nat) ({ cls := "ElephantEdge", name := "claimAt", desc := "(I)LElephantEdge$Claim;" } : Jvm.MethodName)) ∈ lw_all := lw_g (lw_at lw_m6 72 rfl) rfl
theorem q1383 : (Jvm.Cond.privateMethod ({ cls := "ElephantEdge", name := "claimAt", desc := "(I)LElephantEdge$Claim;" } : Jvm.MethodName)) ∈ lw_tbl := lw_at lw_m6 73 rfl
theorem q1384 : (Jvm.Cond.instanceMethod ({ cls := "ElephantEdge", name := "claimAt", desc := "(I)LElephantEdge$Claim;" } : Jvm.MethodName)) ∈ lw_all := lw_g (lw_at lw_m6 74 rfl) rfl
theorem q1385 : (Jvm.Cond.code ({ cls := "ElephantEdge", name := "claimAt", desc := "(I)LElephantEdge$Claim;" } : Jvm.MethodName) prog_1_method_54_code (2 : Nat) (Option.some (Jvm.ClassFile.FieldType.object "ElephantEdge$Claim"))) ∈ lw_all := lw_g (lw_at lw_m6 75 rfl) rfl
theorem q1386 : (Jvm.Cond.constant "ElephantEdge" (182 : Nat) (100000 : Int32)) ∈ lw_all := lw_g (lw_at lw_m6 76 rfl) rfl
theorem q1387 : (Jvm.Cond.classLink "ElephantEdge" (403 : Nat) "ElephantEdge$Row") ∈ lw_all := lw_g (lw_at lw_m6 77 rfl) rfl
theorem q1388 : (Jvm.Cond.methodLink "ElephantEdge" (405 : Nat) ({ cls := "ElephantEdge$Row", name := "<init>", desc := "(II)V" } : Jvm.MethodName)) ∈ lw_all := lw_g (lw_at lw_m6 78 rfl) rfl
theorem q1393 : (Jvm.Cond.instanceMethod ({ cls := "ElephantEdge", name := "harm", desc := "(IIII)I" } : Jvm.MethodName)) ∈ lw_all := lw_g (lw_at lw_m6 83 rfl) rfl
theorem q1394 : (Jvm.Cond.selects "ElephantEdge" ({ cls := "ElephantEdge", name := "harm", desc := "(IIII)I" } : Jvm.MethodName) ({ cls := "ElephantEdge", name := "harm", desc := "(IIII)I" } : Jvm.MethodName)) ∈ lw_all := lw_g (lw_at lw_m6 84 rfl) rfl
theorem q1395 : (Jvm.Cond.code ({ cls := "ElephantEdge", name := "harm", desc := "(IIII)I" } : Jvm.MethodName) prog_1_method_56_code (8 : Nat) (Option.some Jvm.ClassFile.FieldType.int)) ∈ lw_all := lw_g (lw_at lw_m6 85 rfl) rfl
theorem q1396 : (Jvm.Cond.methodLink "ElephantEdge" (410 : Nat) ({ cls := "ElephantEdge$Claim", name := "known", desc := "(I)I" } : Jvm.MethodName)) ∈ lw_all := lw_g (lw_at lw_m6 86 rfl) rfl
theorem q1406 : (Jvm.Cond.instanceMethod ({ cls := "ElephantEdge", name := "fund", desc := "(I)I" } : Jvm.MethodName)) ∈ lw_all := lw_g (lw_at lw_m6 96 rfl) rfl
theorem q1407 : (Jvm.Cond.selects "ElephantEdge" ({ cls := "ElephantEdge", name := "fund", desc := "(I)I" } : Jvm.MethodName) ({ cls := "ElephantEdge", name := "fund", desc := "(I)I" } : Jvm.MethodName)) ∈ lw_all := lw_g (lw_at lw_m6 97 rfl) rfl
theorem q1408 : (Jvm.Cond.code ({ cls := "ElephantEdge", name := "fund", desc := "(I)I" } : Jvm.MethodName) prog_1_method_57_code (2 : Nat) (Option.some Jvm.ClassFile.FieldType.int)) ∈ lw_all := lw_g (lw_at lw_m6 98 rfl) rfl
theorem q1409 : (Jvm.Cond.constant "ElephantEdge" (413 : Nat) (1000000 : Int32)) ∈ lw_all := lw_g (lw_at lw_m6 99 rfl) rfl
theorem q1414 : (Jvm.Cond.instanceMethod ({ cls := "ElephantEdge", name := "judge", desc := "(IIII)I" } : Jvm.MethodName)) ∈ lw_all := lw_g (lw_at lw_m6 104 rfl) rfl
theorem q1415 : (Jvm.Cond.selects "ElephantEdge" ({ cls := "ElephantEdge", name := "judge", desc := "(IIII)I" } : Jvm.MethodName) ({ cls := "ElephantEdge", name := "judge", desc := "(IIII)I" } : Jvm.MethodName)) ∈ lw_all := lw_g (lw_at lw_m6 105 rfl) rfl
theorem q1416 : (Jvm.Cond.code ({ cls := "ElephantEdge", name := "judge", desc := "(IIII)I" } : Jvm.MethodName) prog_1_method_58_code (7 : Nat) (Option.some Jvm.ClassFile.FieldType.int)) ∈ lw_all := lw_g (lw_at lw_m6 106 rfl) rfl
theorem q1417 : (Jvm.Cond.methodLink "ElephantEdge" (419 : Nat) ({ cls := "ElephantEdge$Claim", name := "latest", desc := "()I" } : Jvm.MethodName)) ∈ lw_all := lw_g (lw_at lw_m6 107 rfl) rfl
theorem q1421 : (Jvm.Cond.interfaceEntry "ElephantEdge" (426 : Nat)) ∈ lw_tbl := lw_at lw_m6 111 rfl
theorem q1422 : (Jvm.Cond.methodLink "ElephantEdge" (426 : Nat) ({ cls := "ElephantEdge$Formula", name := "value", desc := "([I)I" } : Jvm.MethodName)) ∈ lw_all := lw_g (lw_at lw_m6 112 rfl) rfl
theorem q1483 : (Jvm.Cond.instanceMethod ({ cls := "ElephantEdge", name := "claim", desc := "(II)I" } : Jvm.MethodName)) ∈ lw_all := lw_g (lw_at lw_m6 173 rfl) rfl
theorem q1484 : (Jvm.Cond.selects "ElephantEdge" ({ cls := "ElephantEdge", name := "claim", desc := "(II)I" } : Jvm.MethodName) ({ cls := "ElephantEdge", name := "claim", desc := "(II)I" } : Jvm.MethodName)) ∈ lw_all := lw_g (lw_at lw_m6 174 rfl) rfl
theorem q1485 : (Jvm.Cond.code ({ cls := "ElephantEdge", name := "claim", desc := "(II)I" } : Jvm.MethodName) prog_1_method_59_code (4 : Nat) (Option.some Jvm.ClassFile.FieldType.int)) ∈ lw_all := lw_g (lw_at lw_m6 175 rfl) rfl
theorem q1490 : (Jvm.Cond.instanceMethod ({ cls := "ElephantEdge", name := "fix", desc := "(III)I" } : Jvm.MethodName)) ∈ lw_all := lw_g (lw_at lw_m6 180 rfl) rfl
theorem q1491 : (Jvm.Cond.selects "ElephantEdge" ({ cls := "ElephantEdge", name := "fix", desc := "(III)I" } : Jvm.MethodName) ({ cls := "ElephantEdge", name := "fix", desc := "(III)I" } : Jvm.MethodName)) ∈ lw_all := lw_g (lw_at lw_m6 181 rfl) rfl
theorem q1492 : (Jvm.Cond.code ({ cls := "ElephantEdge", name := "fix", desc := "(III)I" } : Jvm.MethodName) prog_1_method_63_code (5 : Nat) (Option.some Jvm.ClassFile.FieldType.int)) ∈ lw_all := lw_g (lw_at lw_m6 182 rfl) rfl
theorem q1493 : (Jvm.Cond.methodLink "ElephantEdge" (452 : Nat) ({ cls := "ElephantEdge", name := "hour", desc := "(I)V" } : Jvm.MethodName)) ∈ lw_all := lw_g (lw_at lw_m6 183 rfl) rfl
theorem q1494 : (Jvm.Cond.static ({ cls := "ElephantEdge", name := "hour", desc := "(I)V" } : Jvm.MethodName)) ∈ lw_all := lw_g (lw_at lw_m6 184 rfl) rfl
theorem q1495 : (Jvm.Cond.code ({ cls := "ElephantEdge", name := "hour", desc := "(I)V" } : Jvm.MethodName) prog_1_method_13_code (1 : Nat) (Option.none : Option Jvm.ClassFile.FieldType)) ∈ lw_all := lw_g (lw_at lw_m6 185 rfl) rfl
theorem q1496 : (Jvm.Cond.methodLink "ElephantEdge" (455 : Nat) ({ cls := "ElephantEdge", name := "places", desc := "(LElephantEdge$Herd;I)V" } : Jvm.MethodName)) ∈ lw_all := lw_g (lw_at lw_m6 186 rfl) rfl
theorem q1497 : (Jvm.Cond.privateMethod ({ cls := "ElephantEdge", name := "places", desc := "(LElephantEdge$Herd;I)V" } : Jvm.MethodName)) ∈ lw_tbl := lw_at lw_m6 187 rfl
theorem q1498 : (Jvm.Cond.instanceMethod ({ cls := "ElephantEdge", name := "places", desc := "(LElephantEdge$Herd;I)V" } : Jvm.MethodName)) ∈ lw_all := lw_g (lw_at lw_m6 188 rfl) rfl
theorem q1499 : (Jvm.Cond.code ({ cls := "ElephantEdge", name := "places", desc := "(LElephantEdge$Herd;I)V" } : Jvm.MethodName) prog_1_method_61_code (6 : Nat) (Option.none : Option Jvm.ClassFile.FieldType)) ∈ lw_all := lw_g (lw_at lw_m6 189 rfl) rfl
theorem q1500 : (Jvm.Cond.methodLink "ElephantEdge" (440 : Nat) ({ cls := "ElephantEdge", name := "near", desc := "(II)V" } : Jvm.MethodName)) ∈ lw_all := lw_g (lw_at lw_m6 190 rfl) rfl
theorem q1501 : (Jvm.Cond.privateMethod ({ cls := "ElephantEdge", name := "near", desc := "(II)V" } : Jvm.MethodName)) ∈ lw_tbl := lw_at lw_m6 191 rfl
theorem q1502 : (Jvm.Cond.instanceMethod ({ cls := "ElephantEdge", name := "near", desc := "(II)V" } : Jvm.MethodName)) ∈ lw_all := lw_g (lw_at lw_m6 192 rfl) rfl
theorem q1503 : (Jvm.Cond.code ({ cls := "ElephantEdge", name := "near", desc := "(II)V" } : Jvm.MethodName) prog_1_method_62_code (4 : Nat) (Option.none : Option Jvm.ClassFile.FieldType)) ∈ lw_all := lw_g (lw_at lw_m6 193 rfl) rfl
theorem q1504 : (Jvm.Cond.methodLink "ElephantEdge" (443 : Nat) ({ cls := "ElephantEdge", name := "rivers", desc := "()V" } : Jvm.MethodName)) ∈ lw_all := lw_g (lw_at lw_m6 194 rfl) rfl
theorem q1505 : (Jvm.Cond.privateMethod ({ cls := "ElephantEdge", name := "rivers", desc := "()V" } : Jvm.MethodName)) ∈ lw_tbl := lw_at lw_m6 195 rfl
theorem q1506 : (Jvm.Cond.instanceMethod ({ cls := "ElephantEdge", name := "rivers", desc := "()V" } : Jvm.MethodName)) ∈ lw_all := lw_g (lw_at lw_m6 196 rfl) rfl
theorem q1507 : (Jvm.Cond.code ({ cls := "ElephantEdge", name := "rivers", desc := "()V" } : Jvm.MethodName) prog_1_method_60_code (2 : Nat) (Option.none : Option Jvm.ClassFile.FieldType)) ∈ lw_all := lw_g (lw_at lw_m6 197 rfl) rfl
theorem q1508 : (Jvm.Cond.methodLink "ElephantEdge" (446 : Nat) ({ cls := "ElephantEdge$Steps", name := "from", desc := "(I[Z)V" } : Jvm.MethodName)) ∈ lw_all := lw_g (lw_at lw_m6 198 rfl) rfl
theorem q1518 : (Jvm.Cond.instanceMethod ({ cls := "ElephantEdge", name := "mayBe", desc := "(III)Z" } : Jvm.MethodName)) ∈ lw_all := lw_g (lw_at lw_m6 208 rfl) rfl
theorem q1519 : (Jvm.Cond.selects "ElephantEdge" ({ cls := "ElephantEdge", name := "mayBe", desc := "(III)Z" } : Jvm.MethodName) ({ cls := "ElephantEdge", name := "mayBe", desc := "(III)Z" } : Jvm.MethodName)) ∈ lw_all := lw_g (lw_at lw_m6 209 rfl) rfl
theorem q1520 : (Jvm.Cond.code ({ cls := "ElephantEdge", name := "mayBe", desc := "(III)Z" } : Jvm.MethodName) prog_1_method_64_code (5 : Nat) (Option.some Jvm.ClassFile.FieldType.boolean)) ∈ lw_all := lw_g (lw_at lw_m6 210 rfl) rfl
theorem q1525 : (Jvm.Cond.instanceMethod ({ cls := "ElephantEdge", name := "spots", desc := "(II)I" } : Jvm.MethodName)) ∈ lw_all := lw_g (lw_at lw_m6 215 rfl) rfl
theorem q1526 : (Jvm.Cond.selects "ElephantEdge" ({ cls := "ElephantEdge", name := "spots", desc := "(II)I" } : Jvm.MethodName) ({ cls := "ElephantEdge", name := "spots", desc := "(II)I" } : Jvm.MethodName)) ∈ lw_all := lw_g (lw_at lw_m6 216 rfl) rfl
theorem q1527 : (Jvm.Cond.code ({ cls := "ElephantEdge", name := "spots", desc := "(II)I" } : Jvm.MethodName) prog_1_method_65_code (9 : Nat) (Option.some Jvm.ClassFile.FieldType.int)) ∈ lw_all := lw_g (lw_at lw_m6 217 rfl) rfl
theorem q1532 : (Jvm.Cond.instanceMethod ({ cls := "ElephantEdge", name := "wire", desc := "(III)I" } : Jvm.MethodName)) ∈ lw_all := lw_g (lw_at lw_m6 222 rfl) rfl
theorem q1533 : (Jvm.Cond.selects "ElephantEdge" ({ cls := "ElephantEdge", name := "wire", desc := "(III)I" } : Jvm.MethodName) ({ cls := "ElephantEdge", name := "wire", desc := "(III)I" } : Jvm.MethodName)) ∈ lw_all := lw_g (lw_at lw_m6 223 rfl) rfl
theorem q1534 : (Jvm.Cond.code ({ cls := "ElephantEdge", name := "wire", desc := "(III)I" } : Jvm.MethodName) prog_1_method_66_code (4 : Nat) (Option.some Jvm.ClassFile.FieldType.int)) ∈ lw_all := lw_g (lw_at lw_m6 224 rfl) rfl
theorem q1535 : (Jvm.Cond.classLink "ElephantEdge" (459 : Nat) "ElephantEdge$Wire") ∈ lw_all := lw_g (lw_at lw_m6 225 rfl) rfl
theorem q1537 : (Jvm.Cond.methodLink "ElephantEdge" (461 : Nat) ({ cls := "ElephantEdge$Wire", name := "<init>", desc := "(III)V" } : Jvm.MethodName)) ∈ lw_all := lw_g (lw_at lw_m6 227 rfl) rfl
theorem q1542 : (Jvm.Cond.fieldLinkNest "ElephantEdge" (483 : Nat) "ElephantEdge$Wire" "one" "I" "ElephantEdge") ∈ lw_tbl := lw_at lw_m6 232 rfl
theorem q1544 : (Jvm.Cond.fieldLinkNest "ElephantEdge" (486 : Nat) "ElephantEdge$Wire" "other" "I" "ElephantEdge") ∈ lw_tbl := lw_at lw_m6 234 rfl
theorem q1546 : (Jvm.Cond.fieldLinkNest "ElephantEdge" (488 : Nat) "ElephantEdge$Wire" "weak" "I" "ElephantEdge") ∈ lw_tbl := lw_at lw_m6 236 rfl
theorem q1558 : (Jvm.Cond.instanceMethod ({ cls := "ElephantEdge", name := "wind", desc := "(II)I" } : Jvm.MethodName)) ∈ lw_all := lw_g (lw_at lw_m7 8 rfl) rfl
theorem q1559 : (Jvm.Cond.selects "ElephantEdge" ({ cls := "ElephantEdge", name := "wind", desc := "(II)I" } : Jvm.MethodName) ({ cls := "ElephantEdge", name := "wind", desc := "(II)I" } : Jvm.MethodName)) ∈ lw_all := lw_g (lw_at lw_m7 9 rfl) rfl
theorem q1560 : (Jvm.Cond.code ({ cls := "ElephantEdge", name := "wind", desc := "(II)I" } : Jvm.MethodName) prog_1_method_68_code (5 : Nat) (Option.some Jvm.ClassFile.FieldType.int)) ∈ lw_all := lw_g (lw_at lw_m7 10 rfl) rfl
theorem q1561 : (Jvm.Cond.methodLink "ElephantEdge" (465 : Nat) ({ cls := "ElephantEdge", name := "windOf", desc := "(I)I" } : Jvm.MethodName)) ∈ lw_all := lw_g (lw_at lw_m7 11 rfl) rfl
theorem q1562 : (Jvm.Cond.privateMethod ({ cls := "ElephantEdge", name := "windOf", desc := "(I)I" } : Jvm.MethodName)) ∈ lw_tbl := lw_at lw_m7 12 rfl
theorem q1563 : (Jvm.Cond.instanceMethod ({ cls := "ElephantEdge", name := "windOf", desc := "(I)I" } : Jvm.MethodName)) ∈ lw_all := lw_g (lw_at lw_m7 13 rfl) rfl
theorem q1564 : (Jvm.Cond.code ({ cls := "ElephantEdge", name := "windOf", desc := "(I)I" } : Jvm.MethodName) prog_1_method_67_code (3 : Nat) (Option.some Jvm.ClassFile.FieldType.int)) ∈ lw_all := lw_g (lw_at lw_m7 14 rfl) rfl
theorem q1569 : (Jvm.Cond.instanceMethod ({ cls := "ElephantEdge", name := "trip", desc := "(II)I" } : Jvm.MethodName)) ∈ lw_all := lw_g (lw_at lw_m7 19 rfl) rfl
theorem q1570 : (Jvm.Cond.selects "ElephantEdge" ({ cls := "ElephantEdge", name := "trip", desc := "(II)I" } : Jvm.MethodName) ({ cls := "ElephantEdge", name := "trip", desc := "(II)I" } : Jvm.MethodName)) ∈ lw_all := lw_g (lw_at lw_m7 20 rfl) rfl
theorem q1571 : (Jvm.Cond.code ({ cls := "ElephantEdge", name := "trip", desc := "(II)I" } : Jvm.MethodName) prog_1_method_71_code (4 : Nat) (Option.some Jvm.ClassFile.FieldType.int)) ∈ lw_all := lw_g (lw_at lw_m7 21 rfl) rfl
theorem q1572 : (Jvm.Cond.methodLink "ElephantEdge" (470 : Nat) ({ cls := "ElephantEdge", name := "wireAt", desc := "(I)LElephantEdge$Wire;" } : Jvm.MethodName)) ∈ lw_all := lw_g (lw_at lw_m7 22 rfl) rfl
theorem q1573 : (Jvm.Cond.privateMethod ({ cls := "ElephantEdge", name := "wireAt", desc := "(I)LElephantEdge$Wire;" } : Jvm.MethodName)) ∈ lw_tbl := lw_at lw_m7 23 rfl
theorem q1574 : (Jvm.Cond.instanceMethod ({ cls := "ElephantEdge", name := "wireAt", desc := "(I)LElephantEdge$Wire;" } : Jvm.MethodName)) ∈ lw_all := lw_g (lw_at lw_m7 24 rfl) rfl
theorem q1575 : (Jvm.Cond.code ({ cls := "ElephantEdge", name := "wireAt", desc := "(I)LElephantEdge$Wire;" } : Jvm.MethodName) prog_1_method_69_code (2 : Nat) (Option.some (Jvm.ClassFile.FieldType.object "ElephantEdge$Wire"))) ∈ lw_all := lw_g (lw_at lw_m7 25 rfl) rfl
theorem q1576 : (Jvm.Cond.classLink "ElephantEdge" (468 : Nat) "ElephantEdge$Trip") ∈ lw_all := lw_g (lw_at lw_m7 26 rfl) rfl
theorem q1578 : (Jvm.Cond.methodLink "ElephantEdge" (474 : Nat) ({ cls := "ElephantEdge$Trip", name := "<init>", desc := "(LElephantEdge$Wire;I)V" } : Jvm.MethodName)) ∈ lw_all := lw_g (lw_at lw_m7 28 rfl) rfl
theorem q1583 : (Jvm.Cond.fieldLinkNest "ElephantEdge" (479 : Nat) "ElephantEdge$Trip" "wire" "LElephantEdge$Wire;" "ElephantEdge") ∈ lw_tbl := lw_at lw_m7 33 rfl
theorem q1585 : (Jvm.Cond.fieldLinkNest "ElephantEdge" (477 : Nat) "ElephantEdge$Trip" "hour" "I" "ElephantEdge") ∈ lw_tbl := lw_at lw_m7 35 rfl
theorem q1595 : (Jvm.Cond.instanceMethod ({ cls := "ElephantEdge", name := "cause", desc := "(I)I" } : Jvm.MethodName)) ∈ lw_all := lw_g (lw_at lw_m7 45 rfl) rfl
theorem q1596 : (Jvm.Cond.selects "ElephantEdge" ({ cls := "ElephantEdge", name := "cause", desc := "(I)I" } : Jvm.MethodName) ({ cls := "ElephantEdge", name := "cause", desc := "(I)I" } : Jvm.MethodName)) ∈ lw_all := lw_g (lw_at lw_m7 46 rfl) rfl
theorem q1597 : (Jvm.Cond.code ({ cls := "ElephantEdge", name := "cause", desc := "(I)I" } : Jvm.MethodName) prog_1_method_73_code (2 : Nat) (Option.some Jvm.ClassFile.FieldType.int)) ∈ lw_all := lw_g (lw_at lw_m7 47 rfl) rfl
theorem q1598 : (Jvm.Cond.methodLink "ElephantEdge" (491 : Nat) ({ cls := "ElephantEdge", name := "tripAt", desc := "(I)LElephantEdge$Trip;" } : Jvm.MethodName)) ∈ lw_all := lw_g (lw_at lw_m7 48 rfl) rfl
theorem q1599 : (Jvm.Cond.privateMethod ({ cls := "ElephantEdge", name := "tripAt", desc := "(I)LElephantEdge$Trip;" } : Jvm.MethodName)) ∈ lw_tbl := lw_at lw_m7 49 rfl
theorem q1600 : (Jvm.Cond.instanceMethod ({ cls := "ElephantEdge", name := "tripAt", desc := "(I)LElephantEdge$Trip;" } : Jvm.MethodName)) ∈ lw_all := lw_g (lw_at lw_m7 50 rfl) rfl
theorem q1601 : (Jvm.Cond.code ({ cls := "ElephantEdge", name := "tripAt", desc := "(I)LElephantEdge$Trip;" } : Jvm.MethodName) prog_1_method_70_code (2 : Nat) (Option.some (Jvm.ClassFile.FieldType.object "ElephantEdge$Trip"))) ∈ lw_all := lw_g (lw_at lw_m7 51 rfl) rfl
theorem q1602 : (Jvm.Cond.methodLink "ElephantEdge" (495 : Nat) ({ cls := "ElephantEdge", name := "causeOf", desc := "(LElephantEdge$Trip;)I" } : Jvm.MethodName)) ∈ lw_all := lw_g (lw_at lw_m7 52 rfl) rfl
theorem q1603 : (Jvm.Cond.privateMethod ({ cls := "ElephantEdge", name := "causeOf", desc := "(LElephantEdge$Trip;)I" } : Jvm.MethodName)) ∈ lw_tbl := lw_at lw_m7 53 rfl
theorem q1604 : (Jvm.Cond.instanceMethod ({ cls := "ElephantEdge", name := "causeOf", desc := "(LElephantEdge$Trip;)I" } : Jvm.MethodName)) ∈ lw_all := lw_g (lw_at lw_m7 54 rfl) rfl
theorem q1605 : (Jvm.Cond.code ({ cls := "ElephantEdge", name := "causeOf", desc := "(LElephantEdge$Trip;)I" } : Jvm.MethodName) prog_1_method_72_code (5 : Nat) (Option.some Jvm.ClassFile.FieldType.int)) ∈ lw_all := lw_g (lw_at lw_m7 55 rfl) rfl
theorem q1610 : (Jvm.Cond.instanceMethod ({ cls := "ElephantEdge", name := "causes", desc := "(II)I" } : Jvm.MethodName)) ∈ lw_all := lw_g (lw_at lw_m7 60 rfl) rfl
theorem q1611 : (Jvm.Cond.selects "ElephantEdge" ({ cls := "ElephantEdge", name := "causes", desc := "(II)I" } : Jvm.MethodName) ({ cls := "ElephantEdge", name := "causes", desc := "(II)I" } : Jvm.MethodName)) ∈ lw_all := lw_g (lw_at lw_m7 61 rfl) rfl
theorem q1612 : (Jvm.Cond.code ({ cls := "ElephantEdge", name := "causes", desc := "(II)I" } : Jvm.MethodName) prog_1_method_74_code (6 : Nat) (Option.some Jvm.ClassFile.FieldType.int)) ∈ lw_all := lw_g (lw_at lw_m7 62 rfl) rfl
theorem q1617 : (Jvm.Cond.instanceMethod ({ cls := "ElephantEdge", name := "called", desc := "(II)I" } : Jvm.MethodName)) ∈ lw_all := lw_g (lw_at lw_m7 67 rfl) rfl
theorem q1618 : (Jvm.Cond.selects "ElephantEdge" ({ cls := "ElephantEdge", name := "called", desc := "(II)I" } : Jvm.MethodName) ({ cls := "ElephantEdge", name := "called", desc := "(II)I" } : Jvm.MethodName)) ∈ lw_all := lw_g (lw_at lw_m7 68 rfl) rfl
theorem q1619 : (Jvm.Cond.code ({ cls := "ElephantEdge", name := "called", desc := "(II)I" } : Jvm.MethodName) prog_1_method_75_code (7 : Nat) (Option.some Jvm.ClassFile.FieldType.int)) ∈ lw_all := lw_g (lw_at lw_m7 69 rfl) rfl
theorem q1620 : (Jvm.Cond.methodLink "ElephantEdge" (499 : Nat) ({ cls := "ElephantEdge", name := "apart", desc := "(II)I" } : Jvm.MethodName)) ∈ lw_all := lw_g (lw_at lw_m7 70 rfl) rfl
theorem q1621 : (Jvm.Cond.static ({ cls := "ElephantEdge", name := "apart", desc := "(II)I" } : Jvm.MethodName)) ∈ lw_all := lw_g (lw_at lw_m7 71 rfl) rfl
theorem q1622 : (Jvm.Cond.code ({ cls := "ElephantEdge", name := "apart", desc := "(II)I" } : Jvm.MethodName) prog_1_method_6_code (2 : Nat) (Option.some Jvm.ClassFile.FieldType.int)) ∈ lw_all := lw_g (lw_at lw_m7 72 rfl) rfl
theorem q1623 : (Jvm.Cond.methodLink "ElephantEdge" (25 : Nat) ({ cls := "java/lang/Math", name := "abs", desc := "(I)I" } : Jvm.MethodName)) ∈ lw_all := lw_g (lw_at lw_m7 73 rfl) rfl
theorem q1628 : (Jvm.Cond.instanceMethod ({ cls := "ElephantEdge", name := "dusk", desc := "(III)I" } : Jvm.MethodName)) ∈ lw_all := lw_g (lw_at lw_m7 78 rfl) rfl
theorem q1629 : (Jvm.Cond.selects "ElephantEdge" ({ cls := "ElephantEdge", name := "dusk", desc := "(III)I" } : Jvm.MethodName) ({ cls := "ElephantEdge", name := "dusk", desc := "(III)I" } : Jvm.MethodName)) ∈ lw_all := lw_g (lw_at lw_m7 79 rfl) rfl
theorem q1630 : (Jvm.Cond.code ({ cls := "ElephantEdge", name := "dusk", desc := "(III)I" } : Jvm.MethodName) prog_1_method_76_code (7 : Nat) (Option.some Jvm.ClassFile.FieldType.int)) ∈ lw_all := lw_g (lw_at lw_m7 80 rfl) rfl
theorem q1635 : (Jvm.Cond.instanceMethod ({ cls := "ElephantEdge", name := "lease", desc := "(IZ)Z" } : Jvm.MethodName)) ∈ lw_all := lw_g (lw_at lw_m7 85 rfl) rfl
theorem q1636 : (Jvm.Cond.selects "ElephantEdge" ({ cls := "ElephantEdge", name := "lease", desc := "(IZ)Z" } : Jvm.MethodName) ({ cls := "ElephantEdge", name := "lease", desc := "(IZ)Z" } : Jvm.MethodName)) ∈ lw_all := lw_g (lw_at lw_m7 86 rfl) rfl
theorem q1637 : (Jvm.Cond.code ({ cls := "ElephantEdge", name := "lease", desc := "(IZ)Z" } : Jvm.MethodName) prog_1_method_77_code (4 : Nat) (Option.some Jvm.ClassFile.FieldType.boolean)) ∈ lw_all := lw_g (lw_at lw_m7 87 rfl) rfl
theorem q1642 : (Jvm.Cond.instanceMethod ({ cls := "ElephantEdge", name := "rent", desc := "(II)I" } : Jvm.MethodName)) ∈ lw_all := lw_g (lw_at lw_m7 92 rfl) rfl
theorem q1643 : (Jvm.Cond.selects "ElephantEdge" ({ cls := "ElephantEdge", name := "rent", desc := "(II)I" } : Jvm.MethodName) ({ cls := "ElephantEdge", name := "rent", desc := "(II)I" } : Jvm.MethodName)) ∈ lw_all := lw_g (lw_at lw_m7 93 rfl) rfl
theorem q1644 : (Jvm.Cond.code ({ cls := "ElephantEdge", name := "rent", desc := "(II)I" } : Jvm.MethodName) prog_1_method_78_code (4 : Nat) (Option.some Jvm.ClassFile.FieldType.int)) ∈ lw_all := lw_g (lw_at lw_m7 94 rfl) rfl
theorem q1649 : (Jvm.Cond.instanceMethod ({ cls := "ElephantEdge", name := "rents", desc := "(II)I" } : Jvm.MethodName)) ∈ lw_all := lw_g (lw_at lw_m7 99 rfl) rfl
theorem q1650 : (Jvm.Cond.selects "ElephantEdge" ({ cls := "ElephantEdge", name := "rents", desc := "(II)I" } : Jvm.MethodName) ({ cls := "ElephantEdge", name := "rents", desc := "(II)I" } : Jvm.MethodName)) ∈ lw_all := lw_g (lw_at lw_m7 100 rfl) rfl
theorem q1651 : (Jvm.Cond.code ({ cls := "ElephantEdge", name := "rents", desc := "(II)I" } : Jvm.MethodName) prog_1_method_82_code (3 : Nat) (Option.some Jvm.ClassFile.FieldType.int)) ∈ lw_all := lw_g (lw_at lw_m7 101 rfl) rfl
theorem q1652 : (Jvm.Cond.methodLink "ElephantEdge" (512 : Nat) ({ cls := "ElephantEdge", name := "opens", desc := "(II)I" } : Jvm.MethodName)) ∈ lw_all := lw_g (lw_at lw_m7 102 rfl) rfl
theorem q1653 : (Jvm.Cond.privateMethod ({ cls := "ElephantEdge", name := "opens", desc := "(II)I" } : Jvm.MethodName)) ∈ lw_tbl := lw_at lw_m7 103 rfl
theorem q1654 : (Jvm.Cond.instanceMethod ({ cls := "ElephantEdge", name := "opens", desc := "(II)I" } : Jvm.MethodName)) ∈ lw_all := lw_g (lw_at lw_m7 104 rfl) rfl
theorem q1655 : (Jvm.Cond.code ({ cls := "ElephantEdge", name := "opens", desc := "(II)I" } : Jvm.MethodName) prog_1_method_80_code (8 : Nat) (Option.some Jvm.ClassFile.FieldType.int)) ∈ lw_all := lw_g (lw_at lw_m7 105 rfl) rfl
theorem q1656 : (Jvm.Cond.methodLink "ElephantEdge" (505 : Nat) ({ cls := "ElephantEdge", name := "weight", desc := "(I)I" } : Jvm.MethodName)) ∈ lw_all := lw_g (lw_at lw_m7 106 rfl) rfl
theorem q1657 : (Jvm.Cond.privateMethod ({ cls := "ElephantEdge", name := "weight", desc := "(I)I" } : Jvm.MethodName)) ∈ lw_tbl := lw_at lw_m7 107 rfl
theorem q1658 : (Jvm.Cond.instanceMethod ({ cls := "ElephantEdge", name := "weight", desc := "(I)I" } : Jvm.MethodName)) ∈ lw_all := lw_g (lw_at lw_m7 108 rfl) rfl
theorem q1659 : (Jvm.Cond.code ({ cls := "ElephantEdge", name := "weight", desc := "(I)I" } : Jvm.MethodName) prog_1_method_79_code (2 : Nat) (Option.some Jvm.ClassFile.FieldType.int)) ∈ lw_all := lw_g (lw_at lw_m7 109 rfl) rfl
theorem q1660 : (Jvm.Cond.methodLink "ElephantEdge" (508 : Nat) ({ cls := "ElephantEdge", name := "onward", desc := "([III)I" } : Jvm.MethodName)) ∈ lw_all := lw_g (lw_at lw_m7 110 rfl) rfl
theorem q1661 : (Jvm.Cond.privateMethod ({ cls := "ElephantEdge", name := "onward", desc := "([III)I" } : Jvm.MethodName)) ∈ lw_tbl := lw_at lw_m7 111 rfl
theorem q1662 : (Jvm.Cond.instanceMethod ({ cls := "ElephantEdge", name := "onward", desc := "([III)I" } : Jvm.MethodName)) ∈ lw_all := lw_g (lw_at lw_m7 112 rfl) rfl
theorem q1663 : (Jvm.Cond.code ({ cls := "ElephantEdge", name := "onward", desc := "([III)I" } : Jvm.MethodName) prog_1_method_81_code (5 : Nat) (Option.some Jvm.ClassFile.FieldType.int)) ∈ lw_all := lw_g (lw_at lw_m7 113 rfl) rfl
theorem q1668 : (Jvm.Cond.instanceMethod ({ cls := "ElephantEdge", name := "gap", desc := "(III)I" } : Jvm.MethodName)) ∈ lw_all := lw_g (lw_at lw_m7 118 rfl) rfl
theorem q1669 : (Jvm.Cond.selects "ElephantEdge" ({ cls := "ElephantEdge", name := "gap", desc := "(III)I" } : Jvm.MethodName) ({ cls := "ElephantEdge", name := "gap", desc := "(III)I" } : Jvm.MethodName)) ∈ lw_all := lw_g (lw_at lw_m7 119 rfl) rfl
theorem q1670 : (Jvm.Cond.code ({ cls := "ElephantEdge", name := "gap", desc := "(III)I" } : Jvm.MethodName) prog_1_method_83_code (4 : Nat) (Option.some Jvm.ClassFile.FieldType.int)) ∈ lw_all := lw_g (lw_at lw_m7 120 rfl) rfl
theorem q2512 : (Jvm.Cond.castable "ElephantEdge" "java/lang/Object") ∈ lw_tbl := lw_at lw_m11 2 rfl
theorem in_X1 : ∀ w ∈ wsX10, w ∈ lw_all := lw_in wsX10 [402, 404, 406, 408, 410, 412, 414, 416, 418, 420, 422, 424, 426, 428, 430, 432, 434, 436, 438, 440, 442, 444, 446, 448, 450, 452, 454, 456, 458, 460, 462, 464, 466, 468, 470, 472, 474, 476, 478] (by decide +kernel) (by decide +kernel)
/-! ElephantEdge$Land -/
def RX2 : String := "ElephantEdge$Land"
def TX2 : u_T := fun k => match k with
  | 0 => ("ElephantEdge$Land", "kind", "[I", true)
  | 1 => ("ElephantEdge$Land", "family", "[I", true)
  | 2 => ("ElephantEdge$Land", "crop", "[I", true)
  | 3 => ("ElephantEdge$Land", "stalks", "[I", true)
  | 4 => ("ElephantEdge$Land", "fear", "[I", true)
  | 5 => ("ElephantEdge$Land", "right", "[I", true)
  | 6 => ("ElephantEdge$Land", "below", "[I", true)
  | 7 => ("ElephantEdge$Land", "rightBy", "[I", true)
  | _ => ("ElephantEdge$Land", "belowBy", "[I", true)
def tyX2 : Nat → FieldType := fun k => match k with
  | 0 => .array .int
  | 1 => .array .int
  | 2 => .array .int
  | 3 => .array .int
  | 4 => .array .int
  | 5 => .array .int
  | 6 => .array .int
  | 7 => .array .int
  | _ => .array .int
abbrev wsX20 : List Cond := u_ws RX2 TX2 9
theorem nmX2 : ∀ a, a < 9 → ∀ b, b < 9 → a ≠ b → (TX2 a).2.1 ≠ (TX2 b).2.1 := by decide +kernel
theorem tyX2_ok : ∀ k, k < 9 → parseFieldDescriptor (TX2 k).2.2.1 = some (tyX2 k) := by decide +kernel
abbrev cX2_init : ByteArray := prog_7_method_1_code
def yX2_init : MethodName := ⟨RX2, "<init>", "()V"⟩
abbrev cX2_like : ByteArray := prog_7_method_2_code
def yX2_like : MethodName := ⟨RX2, "like", "(LElephantEdge$Land;)V"⟩
abbrev cX2_frightens : ByteArray := prog_7_method_11_code
def yX2_frightens : MethodName := ⟨RX2, "frightens", "(II)V"⟩
abbrev cX2_isOpen : ByteArray := prog_7_method_8_code
def yX2_isOpen : MethodName := ⟨RX2, "isOpen", "(I)Z"⟩
abbrev cX2_step : ByteArray := prog_7_method_7_code
def yX2_step : MethodName := ⟨RX2, "step", "(III)I"⟩
abbrev cX2_fence : ByteArray := prog_7_method_3_code
def yX2_fence : MethodName := ⟨RX2, "fence", "(II)I"⟩
abbrev cX2_isRipe : ByteArray := prog_7_method_9_code
def yX2_isRipe : MethodName := ⟨RX2, "isRipe", "(I)Z"⟩
abbrev cX2_fence_2 : ByteArray := prog_7_method_4_code
def yX2_fence_2 : MethodName := ⟨RX2, "fence", "(III)V"⟩
abbrev cX2_loses : ByteArray := prog_7_method_10_code
def yX2_loses : MethodName := ⟨RX2, "loses", "(II)I"⟩
abbrev cX2_wears : ByteArray := prog_7_method_12_code
def yX2_wears : MethodName := ⟨RX2, "wears", "(I)V"⟩
abbrev cX2_without : ByteArray := prog_7_method_6_code
def yX2_without : MethodName := ⟨RX2, "without", "(I)V"⟩
abbrev cX2_builder : ByteArray := prog_7_method_5_code
def yX2_builder : MethodName := ⟨RX2, "builder", "(III)V"⟩
abbrev cX2_ripe : ByteArray := prog_7_method_13_code
def yX2_ripe : MethodName := ⟨RX2, "ripe", "([I)I"⟩
theorem q112 : (Jvm.Cond.initialized "ElephantEdge$Land") ∈ lw_all := lw_g (lw_at lw_m1 2 rfl) rfl
theorem q162 : (Jvm.Cond.instantiable "ElephantEdge$Land" (9 : Nat)) ∈ lw_all := lw_g (lw_at lw_m1 52 rfl) rfl
theorem q164 : (Jvm.Cond.instanceMethod ({ cls := "ElephantEdge$Land", name := "<init>", desc := "()V" } : Jvm.MethodName)) ∈ lw_all := lw_g (lw_at lw_m1 54 rfl) rfl
theorem q165 : (Jvm.Cond.code ({ cls := "ElephantEdge$Land", name := "<init>", desc := "()V" } : Jvm.MethodName) prog_7_method_1_code (1 : Nat) (Option.none : Option Jvm.ClassFile.FieldType)) ∈ lw_all := lw_g (lw_at lw_m1 55 rfl) rfl
theorem q166 : (Jvm.Cond.methodLink "ElephantEdge$Land" (3 : Nat) ({ cls := "java/lang/Object", name := "<init>", desc := "()V" } : Jvm.MethodName)) ∈ lw_all := lw_g (lw_at lw_m1 56 rfl) rfl
theorem q167 : (Jvm.Cond.fieldLink "ElephantEdge$Land" (9 : Nat) "ElephantEdge$Land" "kind" "[I") ∈ lw_all := lw_g (lw_at lw_m1 57 rfl) rfl
theorem q169 : (Jvm.Cond.fieldLink "ElephantEdge$Land" (15 : Nat) "ElephantEdge$Land" "family" "[I") ∈ lw_all := lw_g (lw_at lw_m1 59 rfl) rfl
theorem q171 : (Jvm.Cond.fieldLink "ElephantEdge$Land" (18 : Nat) "ElephantEdge$Land" "crop" "[I") ∈ lw_all := lw_g (lw_at lw_m1 61 rfl) rfl
theorem q173 : (Jvm.Cond.fieldLink "ElephantEdge$Land" (21 : Nat) "ElephantEdge$Land" "stalks" "[I") ∈ lw_all := lw_g (lw_at lw_m1 63 rfl) rfl
theorem q175 : (Jvm.Cond.fieldLink "ElephantEdge$Land" (24 : Nat) "ElephantEdge$Land" "fear" "[I") ∈ lw_all := lw_g (lw_at lw_m1 65 rfl) rfl
theorem q177 : (Jvm.Cond.fieldLink "ElephantEdge$Land" (27 : Nat) "ElephantEdge$Land" "right" "[I") ∈ lw_all := lw_g (lw_at lw_m1 67 rfl) rfl
theorem q178 : (Jvm.Cond.fieldLink "ElephantEdge$Land" (30 : Nat) "ElephantEdge$Land" "below" "[I") ∈ lw_all := lw_g (lw_at lw_m1 68 rfl) rfl
theorem q179 : (Jvm.Cond.fieldLink "ElephantEdge$Land" (33 : Nat) "ElephantEdge$Land" "rightBy" "[I") ∈ lw_all := lw_g (lw_at lw_m1 69 rfl) rfl
theorem q180 : (Jvm.Cond.fieldLink "ElephantEdge$Land" (36 : Nat) "ElephantEdge$Land" "belowBy" "[I") ∈ lw_all := lw_g (lw_at lw_m1 70 rfl) rfl
theorem q181 : (Jvm.Cond.laysFinal "ElephantEdge$Land" "ElephantEdge$Land" "kind" "[I") ∈ lw_all := lw_g (lw_at lw_m1 71 rfl) rfl
theorem q182 : (Jvm.Cond.soleField "ElephantEdge$Land" "kind") ∈ lw_all := lw_g (lw_at lw_m1 72 rfl) rfl
theorem q183 : (Jvm.Cond.laysFinal "ElephantEdge$Land" "ElephantEdge$Land" "family" "[I") ∈ lw_all := lw_g (lw_at lw_m1 73 rfl) rfl
theorem q184 : (Jvm.Cond.soleField "ElephantEdge$Land" "family") ∈ lw_all := lw_g (lw_at lw_m1 74 rfl) rfl
theorem q185 : (Jvm.Cond.laysFinal "ElephantEdge$Land" "ElephantEdge$Land" "crop" "[I") ∈ lw_all := lw_g (lw_at lw_m1 75 rfl) rfl
theorem q186 : (Jvm.Cond.soleField "ElephantEdge$Land" "crop") ∈ lw_all := lw_g (lw_at lw_m1 76 rfl) rfl
theorem q187 : (Jvm.Cond.laysFinal "ElephantEdge$Land" "ElephantEdge$Land" "stalks" "[I") ∈ lw_all := lw_g (lw_at lw_m1 77 rfl) rfl
theorem q188 : (Jvm.Cond.soleField "ElephantEdge$Land" "stalks") ∈ lw_all := lw_g (lw_at lw_m1 78 rfl) rfl
theorem q189 : (Jvm.Cond.laysFinal "ElephantEdge$Land" "ElephantEdge$Land" "fear" "[I") ∈ lw_all := lw_g (lw_at lw_m1 79 rfl) rfl
theorem q190 : (Jvm.Cond.soleField "ElephantEdge$Land" "fear") ∈ lw_all := lw_g (lw_at lw_m1 80 rfl) rfl
theorem q191 : (Jvm.Cond.laysFinal "ElephantEdge$Land" "ElephantEdge$Land" "right" "[I") ∈ lw_all := lw_g (lw_at lw_m1 81 rfl) rfl
theorem q192 : (Jvm.Cond.soleField "ElephantEdge$Land" "right") ∈ lw_all := lw_g (lw_at lw_m1 82 rfl) rfl
theorem q193 : (Jvm.Cond.laysFinal "ElephantEdge$Land" "ElephantEdge$Land" "below" "[I") ∈ lw_all := lw_g (lw_at lw_m1 83 rfl) rfl
theorem q194 : (Jvm.Cond.soleField "ElephantEdge$Land" "below") ∈ lw_all := lw_g (lw_at lw_m1 84 rfl) rfl
theorem q195 : (Jvm.Cond.laysFinal "ElephantEdge$Land" "ElephantEdge$Land" "rightBy" "[I") ∈ lw_all := lw_g (lw_at lw_m1 85 rfl) rfl
theorem q196 : (Jvm.Cond.soleField "ElephantEdge$Land" "rightBy") ∈ lw_all := lw_g (lw_at lw_m1 86 rfl) rfl
theorem q197 : (Jvm.Cond.laysFinal "ElephantEdge$Land" "ElephantEdge$Land" "belowBy" "[I") ∈ lw_all := lw_g (lw_at lw_m1 87 rfl) rfl
theorem q198 : (Jvm.Cond.soleField "ElephantEdge$Land" "belowBy") ∈ lw_all := lw_g (lw_at lw_m1 88 rfl) rfl
theorem q199 : (Jvm.Cond.superclass "ElephantEdge$Land" "java/lang/Object") ∈ lw_all := lw_g (lw_at lw_m1 89 rfl) rfl
theorem q490 : (Jvm.Cond.instanceMethod ({ cls := "ElephantEdge$Land", name := "like", desc := "(LElephantEdge$Land;)V" } : Jvm.MethodName)) ∈ lw_all := lw_g (lw_at lw_m2 140 rfl) rfl
theorem q491 : (Jvm.Cond.selects "ElephantEdge$Land" ({ cls := "ElephantEdge$Land", name := "like", desc := "(LElephantEdge$Land;)V" } : Jvm.MethodName) ({ cls := "ElephantEdge$Land", name := "like", desc := "(LElephantEdge$Land;)V" } : Jvm.MethodName)) ∈ lw_all := lw_g (lw_at lw_m2 141 rfl) rfl
theorem q492 : (Jvm.Cond.code ({ cls := "ElephantEdge$Land", name := "like", desc := "(LElephantEdge$Land;)V" } : Jvm.MethodName) prog_7_method_2_code (2 : Nat) (Option.none : Option Jvm.ClassFile.FieldType)) ∈ lw_all := lw_g (lw_at lw_m2 142 rfl) rfl
theorem q493 : (Jvm.Cond.methodLink "ElephantEdge$Land" (39 : Nat) ({ cls := "java/lang/System", name := "arraycopy", desc := "(Ljava/lang/Object;ILjava/lang/Object;II)V" } : Jvm.MethodName)) ∈ lw_all := lw_g (lw_at lw_m2 143 rfl) rfl
theorem q501 : (Jvm.Cond.instanceMethod ({ cls := "ElephantEdge$Land", name := "frightens", desc := "(II)V" } : Jvm.MethodName)) ∈ lw_all := lw_g (lw_at lw_m2 151 rfl) rfl
theorem q502 : (Jvm.Cond.selects "ElephantEdge$Land" ({ cls := "ElephantEdge$Land", name := "frightens", desc := "(II)V" } : Jvm.MethodName) ({ cls := "ElephantEdge$Land", name := "frightens", desc := "(II)V" } : Jvm.MethodName)) ∈ lw_all := lw_g (lw_at lw_m2 152 rfl) rfl
theorem q503 : (Jvm.Cond.code ({ cls := "ElephantEdge$Land", name := "frightens", desc := "(II)V" } : Jvm.MethodName) prog_7_method_11_code (5 : Nat) (Option.none : Option Jvm.ClassFile.FieldType)) ∈ lw_all := lw_g (lw_at lw_m2 153 rfl) rfl
theorem q504 : (Jvm.Cond.methodLink "ElephantEdge$Land" (51 : Nat) ({ cls := "java/lang/Math", name := "min", desc := "(II)I" } : Jvm.MethodName)) ∈ lw_all := lw_g (lw_at lw_m2 154 rfl) rfl
theorem q507 : (Jvm.Cond.methodLinkNest "ElephantEdge$Land" (58 : Nat) ({ cls := "ElephantEdge", name := "next", desc := "(II)I" } : Jvm.MethodName) "ElephantEdge") ∈ lw_tbl := lw_at lw_m2 157 rfl
theorem q548 : (Jvm.Cond.instanceMethod ({ cls := "ElephantEdge$Land", name := "isOpen", desc := "(I)Z" } : Jvm.MethodName)) ∈ lw_all := lw_g (lw_at lw_m2 198 rfl) rfl
theorem q549 : (Jvm.Cond.selects "ElephantEdge$Land" ({ cls := "ElephantEdge$Land", name := "isOpen", desc := "(I)Z" } : Jvm.MethodName) ({ cls := "ElephantEdge$Land", name := "isOpen", desc := "(I)Z" } : Jvm.MethodName)) ∈ lw_all := lw_g (lw_at lw_m2 199 rfl) rfl
theorem q550 : (Jvm.Cond.code ({ cls := "ElephantEdge$Land", name := "isOpen", desc := "(I)Z" } : Jvm.MethodName) prog_7_method_8_code (2 : Nat) (Option.some Jvm.ClassFile.FieldType.boolean)) ∈ lw_all := lw_g (lw_at lw_m2 200 rfl) rfl
theorem q552 : (Jvm.Cond.instanceMethod ({ cls := "ElephantEdge$Land", name := "step", desc := "(III)I" } : Jvm.MethodName)) ∈ lw_all := lw_g (lw_at lw_m2 202 rfl) rfl
theorem q553 : (Jvm.Cond.selects "ElephantEdge$Land" ({ cls := "ElephantEdge$Land", name := "step", desc := "(III)I" } : Jvm.MethodName) ({ cls := "ElephantEdge$Land", name := "step", desc := "(III)I" } : Jvm.MethodName)) ∈ lw_all := lw_g (lw_at lw_m2 203 rfl) rfl
theorem q554 : (Jvm.Cond.code ({ cls := "ElephantEdge$Land", name := "step", desc := "(III)I" } : Jvm.MethodName) prog_7_method_7_code (4 : Nat) (Option.some Jvm.ClassFile.FieldType.int)) ∈ lw_all := lw_g (lw_at lw_m2 204 rfl) rfl
theorem q555 : (Jvm.Cond.methodLink "ElephantEdge$Land" (55 : Nat) ({ cls := "ElephantEdge$Land", name := "fence", desc := "(II)I" } : Jvm.MethodName)) ∈ lw_all := lw_g (lw_at lw_m2 205 rfl) rfl
theorem q556 : (Jvm.Cond.instanceMethod ({ cls := "ElephantEdge$Land", name := "fence", desc := "(II)I" } : Jvm.MethodName)) ∈ lw_all := lw_g (lw_at lw_m2 206 rfl) rfl
theorem q557 : (Jvm.Cond.selects "ElephantEdge$Land" ({ cls := "ElephantEdge$Land", name := "fence", desc := "(II)I" } : Jvm.MethodName) ({ cls := "ElephantEdge$Land", name := "fence", desc := "(II)I" } : Jvm.MethodName)) ∈ lw_all := lw_g (lw_at lw_m2 207 rfl) rfl
theorem q558 : (Jvm.Cond.code ({ cls := "ElephantEdge$Land", name := "fence", desc := "(II)I" } : Jvm.MethodName) prog_7_method_3_code (3 : Nat) (Option.some Jvm.ClassFile.FieldType.int)) ∈ lw_all := lw_g (lw_at lw_m2 208 rfl) rfl
theorem q559 : (Jvm.Cond.methodLink "ElephantEdge$Land" (45 : Nat) ({ cls := "java/lang/Math", name := "abs", desc := "(I)I" } : Jvm.MethodName)) ∈ lw_all := lw_g (lw_at lw_m2 209 rfl) rfl
theorem q564 : (Jvm.Cond.instanceMethod ({ cls := "ElephantEdge$Land", name := "isRipe", desc := "(I)Z" } : Jvm.MethodName)) ∈ lw_all := lw_g (lw_at lw_m2 214 rfl) rfl
theorem q565 : (Jvm.Cond.selects "ElephantEdge$Land" ({ cls := "ElephantEdge$Land", name := "isRipe", desc := "(I)Z" } : Jvm.MethodName) ({ cls := "ElephantEdge$Land", name := "isRipe", desc := "(I)Z" } : Jvm.MethodName)) ∈ lw_all := lw_g (lw_at lw_m2 215 rfl) rfl
theorem q566 : (Jvm.Cond.code ({ cls := "ElephantEdge$Land", name := "isRipe", desc := "(I)Z" } : Jvm.MethodName) prog_7_method_9_code (2 : Nat) (Option.some Jvm.ClassFile.FieldType.boolean)) ∈ lw_all := lw_g (lw_at lw_m2 216 rfl) rfl
theorem q580 : (Jvm.Cond.instanceMethod ({ cls := "ElephantEdge$Land", name := "fence", desc := "(III)V" } : Jvm.MethodName)) ∈ lw_all := lw_g (lw_at lw_m2 230 rfl) rfl
theorem q581 : (Jvm.Cond.selects "ElephantEdge$Land" ({ cls := "ElephantEdge$Land", name := "fence", desc := "(III)V" } : Jvm.MethodName) ({ cls := "ElephantEdge$Land", name := "fence", desc := "(III)V" } : Jvm.MethodName)) ∈ lw_all := lw_g (lw_at lw_m2 231 rfl) rfl
theorem q582 : (Jvm.Cond.code ({ cls := "ElephantEdge$Land", name := "fence", desc := "(III)V" } : Jvm.MethodName) prog_7_method_4_code (4 : Nat) (Option.none : Option Jvm.ClassFile.FieldType)) ∈ lw_all := lw_g (lw_at lw_m2 232 rfl) rfl
theorem q588 : (Jvm.Cond.instanceMethod ({ cls := "ElephantEdge$Land", name := "loses", desc := "(II)I" } : Jvm.MethodName)) ∈ lw_all := lw_g (lw_at lw_m2 238 rfl) rfl
theorem q589 : (Jvm.Cond.selects "ElephantEdge$Land" ({ cls := "ElephantEdge$Land", name := "loses", desc := "(II)I" } : Jvm.MethodName) ({ cls := "ElephantEdge$Land", name := "loses", desc := "(II)I" } : Jvm.MethodName)) ∈ lw_all := lw_g (lw_at lw_m2 239 rfl) rfl
theorem q590 : (Jvm.Cond.code ({ cls := "ElephantEdge$Land", name := "loses", desc := "(II)I" } : Jvm.MethodName) prog_7_method_10_code (4 : Nat) (Option.some Jvm.ClassFile.FieldType.int)) ∈ lw_all := lw_g (lw_at lw_m3 0 rfl) rfl
theorem q592 : (Jvm.Cond.instanceMethod ({ cls := "ElephantEdge$Land", name := "wears", desc := "(I)V" } : Jvm.MethodName)) ∈ lw_all := lw_g (lw_at lw_m3 2 rfl) rfl
theorem q593 : (Jvm.Cond.selects "ElephantEdge$Land" ({ cls := "ElephantEdge$Land", name := "wears", desc := "(I)V" } : Jvm.MethodName) ({ cls := "ElephantEdge$Land", name := "wears", desc := "(I)V" } : Jvm.MethodName)) ∈ lw_all := lw_g (lw_at lw_m3 3 rfl) rfl
theorem q594 : (Jvm.Cond.code ({ cls := "ElephantEdge$Land", name := "wears", desc := "(I)V" } : Jvm.MethodName) prog_7_method_12_code (3 : Nat) (Option.none : Option Jvm.ClassFile.FieldType)) ∈ lw_all := lw_g (lw_at lw_m3 4 rfl) rfl
theorem q596 : (Jvm.Cond.instanceMethod ({ cls := "ElephantEdge$Land", name := "without", desc := "(I)V" } : Jvm.MethodName)) ∈ lw_all := lw_g (lw_at lw_m3 6 rfl) rfl
theorem q597 : (Jvm.Cond.selects "ElephantEdge$Land" ({ cls := "ElephantEdge$Land", name := "without", desc := "(I)V" } : Jvm.MethodName) ({ cls := "ElephantEdge$Land", name := "without", desc := "(I)V" } : Jvm.MethodName)) ∈ lw_all := lw_g (lw_at lw_m3 7 rfl) rfl
theorem q598 : (Jvm.Cond.code ({ cls := "ElephantEdge$Land", name := "without", desc := "(I)V" } : Jvm.MethodName) prog_7_method_6_code (3 : Nat) (Option.none : Option Jvm.ClassFile.FieldType)) ∈ lw_all := lw_g (lw_at lw_m3 8 rfl) rfl
theorem q664 : (Jvm.Cond.selects "ElephantEdge$Land" ({ cls := "java/lang/Object", name := "getClass", desc := "()Ljava/lang/Class;" } : Jvm.MethodName) ({ cls := "java/lang/Object", name := "getClass", desc := "()Ljava/lang/Class;" } : Jvm.MethodName)) ∈ lw_all := lw_g (lw_at lw_m3 74 rfl) rfl
theorem q929 : (Jvm.Cond.instanceMethod ({ cls := "ElephantEdge$Land", name := "builder", desc := "(III)V" } : Jvm.MethodName)) ∈ lw_all := lw_g (lw_at lw_m4 99 rfl) rfl
theorem q930 : (Jvm.Cond.selects "ElephantEdge$Land" ({ cls := "ElephantEdge$Land", name := "builder", desc := "(III)V" } : Jvm.MethodName) ({ cls := "ElephantEdge$Land", name := "builder", desc := "(III)V" } : Jvm.MethodName)) ∈ lw_all := lw_g (lw_at lw_m4 100 rfl) rfl
theorem q931 : (Jvm.Cond.code ({ cls := "ElephantEdge$Land", name := "builder", desc := "(III)V" } : Jvm.MethodName) prog_7_method_5_code (4 : Nat) (Option.none : Option Jvm.ClassFile.FieldType)) ∈ lw_all := lw_g (lw_at lw_m4 101 rfl) rfl
theorem q1242 : (Jvm.Cond.instanceMethod ({ cls := "ElephantEdge$Land", name := "ripe", desc := "([I)I" } : Jvm.MethodName)) ∈ lw_all := lw_g (lw_at lw_m5 172 rfl) rfl
theorem q1243 : (Jvm.Cond.selects "ElephantEdge$Land" ({ cls := "ElephantEdge$Land", name := "ripe", desc := "([I)I" } : Jvm.MethodName) ({ cls := "ElephantEdge$Land", name := "ripe", desc := "([I)I" } : Jvm.MethodName)) ∈ lw_all := lw_g (lw_at lw_m5 173 rfl) rfl
theorem q1244 : (Jvm.Cond.code ({ cls := "ElephantEdge$Land", name := "ripe", desc := "([I)I" } : Jvm.MethodName) prog_7_method_13_code (4 : Nat) (Option.some Jvm.ClassFile.FieldType.int)) ∈ lw_all := lw_g (lw_at lw_m5 174 rfl) rfl
theorem q1245 : (Jvm.Cond.methodLink "ElephantEdge$Land" (61 : Nat) ({ cls := "ElephantEdge$Land", name := "isRipe", desc := "(I)Z" } : Jvm.MethodName)) ∈ lw_all := lw_g (lw_at lw_m5 175 rfl) rfl
theorem q2513 : (Jvm.Cond.castable "ElephantEdge$Land" "java/lang/Object") ∈ lw_tbl := lw_at lw_m11 3 rfl
theorem in_X2 : ∀ w ∈ wsX20, w ∈ lw_all := lw_in wsX20 [181, 183, 185, 187, 189, 191, 193, 195, 197] (by decide +kernel) (by decide +kernel)
/-! ElephantEdge$Ways -/
def RX3 : String := "ElephantEdge$Ways"
def TX3 : u_T := fun k => match k with
  | 0 => ("ElephantEdge$Ways", "cost", "[I", true)
  | 1 => ("ElephantEdge$Ways", "way", "[I", true)
  | 2 => ("ElephantEdge$Ways", "isDone", "[Z", true)
  | _ => ("ElephantEdge$Ways", "length", "I", false)
def tyX3 : Nat → FieldType := fun k => match k with
  | 0 => .array .int
  | 1 => .array .int
  | 2 => .array .boolean
  | _ => .int
abbrev wsX30 : List Cond := u_ws RX3 TX3 4
theorem nmX3 : ∀ a, a < 4 → ∀ b, b < 4 → a ≠ b → (TX3 a).2.1 ≠ (TX3 b).2.1 := by decide +kernel
theorem tyX3_ok : ∀ k, k < 4 → parseFieldDescriptor (TX3 k).2.2.1 = some (tyX3 k) := by decide +kernel
abbrev cX3_init : ByteArray := prog_19_method_1_code
def yX3_init : MethodName := ⟨RX3, "<init>", "()V"⟩
abbrev cX3_from : ByteArray := prog_19_method_2_code
def yX3_from : MethodName := ⟨RX3, "from", "(LElephantEdge$Land;IIZ)V"⟩
abbrev cX3_nearest : ByteArray := prog_19_method_3_code
def yX3_nearest : MethodName := ⟨RX3, "nearest", "()I"⟩
abbrev cX3_goes : ByteArray := prog_19_method_4_code
def yX3_goes : MethodName := ⟨RX3, "goes", "(LElephantEdge$Land;III)V"⟩
theorem q113 : (Jvm.Cond.initialized "ElephantEdge$Ways") ∈ lw_all := lw_g (lw_at lw_m1 3 rfl) rfl
theorem q203 : (Jvm.Cond.instantiable "ElephantEdge$Ways" (4 : Nat)) ∈ lw_all := lw_g (lw_at lw_m1 93 rfl) rfl
theorem q205 : (Jvm.Cond.instanceMethod ({ cls := "ElephantEdge$Ways", name := "<init>", desc := "()V" } : Jvm.MethodName)) ∈ lw_all := lw_g (lw_at lw_m1 95 rfl) rfl
theorem q206 : (Jvm.Cond.code ({ cls := "ElephantEdge$Ways", name := "<init>", desc := "()V" } : Jvm.MethodName) prog_19_method_1_code (1 : Nat) (Option.none : Option Jvm.ClassFile.FieldType)) ∈ lw_all := lw_g (lw_at lw_m1 96 rfl) rfl
theorem q207 : (Jvm.Cond.methodLink "ElephantEdge$Ways" (3 : Nat) ({ cls := "java/lang/Object", name := "<init>", desc := "()V" } : Jvm.MethodName)) ∈ lw_all := lw_g (lw_at lw_m1 97 rfl) rfl
theorem q208 : (Jvm.Cond.fieldLink "ElephantEdge$Ways" (9 : Nat) "ElephantEdge$Ways" "cost" "[I") ∈ lw_all := lw_g (lw_at lw_m1 98 rfl) rfl
theorem q210 : (Jvm.Cond.fieldLink "ElephantEdge$Ways" (15 : Nat) "ElephantEdge$Ways" "way" "[I") ∈ lw_all := lw_g (lw_at lw_m1 100 rfl) rfl
theorem q212 : (Jvm.Cond.fieldLink "ElephantEdge$Ways" (18 : Nat) "ElephantEdge$Ways" "isDone" "[Z") ∈ lw_all := lw_g (lw_at lw_m1 102 rfl) rfl
theorem q213 : (Jvm.Cond.fieldLink "ElephantEdge$Ways" (46 : Nat) "ElephantEdge$Ways" "length" "I") ∈ lw_all := lw_g (lw_at lw_m1 103 rfl) rfl
theorem q215 : (Jvm.Cond.laysFinal "ElephantEdge$Ways" "ElephantEdge$Ways" "cost" "[I") ∈ lw_all := lw_g (lw_at lw_m1 105 rfl) rfl
theorem q216 : (Jvm.Cond.soleField "ElephantEdge$Ways" "cost") ∈ lw_all := lw_g (lw_at lw_m1 106 rfl) rfl
theorem q217 : (Jvm.Cond.laysFinal "ElephantEdge$Ways" "ElephantEdge$Ways" "way" "[I") ∈ lw_all := lw_g (lw_at lw_m1 107 rfl) rfl
theorem q218 : (Jvm.Cond.soleField "ElephantEdge$Ways" "way") ∈ lw_all := lw_g (lw_at lw_m1 108 rfl) rfl
theorem q219 : (Jvm.Cond.laysFinal "ElephantEdge$Ways" "ElephantEdge$Ways" "isDone" "[Z") ∈ lw_all := lw_g (lw_at lw_m1 109 rfl) rfl
theorem q220 : (Jvm.Cond.soleField "ElephantEdge$Ways" "isDone") ∈ lw_all := lw_g (lw_at lw_m1 110 rfl) rfl
theorem q221 : (Jvm.Cond.lays "ElephantEdge$Ways" "ElephantEdge$Ways" "length" "I") ∈ lw_all := lw_g (lw_at lw_m1 111 rfl) rfl
theorem q222 : (Jvm.Cond.soleField "ElephantEdge$Ways" "length") ∈ lw_all := lw_g (lw_at lw_m1 112 rfl) rfl
theorem q223 : (Jvm.Cond.superclass "ElephantEdge$Ways" "java/lang/Object") ∈ lw_all := lw_g (lw_at lw_m1 113 rfl) rfl
theorem q538 : (Jvm.Cond.instanceMethod ({ cls := "ElephantEdge$Ways", name := "from", desc := "(LElephantEdge$Land;IIZ)V" } : Jvm.MethodName)) ∈ lw_all := lw_g (lw_at lw_m2 188 rfl) rfl
theorem q539 : (Jvm.Cond.selects "ElephantEdge$Ways" ({ cls := "ElephantEdge$Ways", name := "from", desc := "(LElephantEdge$Land;IIZ)V" } : Jvm.MethodName) ({ cls := "ElephantEdge$Ways", name := "from", desc := "(LElephantEdge$Land;IIZ)V" } : Jvm.MethodName)) ∈ lw_all := lw_g (lw_at lw_m2 189 rfl) rfl
theorem q540 : (Jvm.Cond.code ({ cls := "ElephantEdge$Ways", name := "from", desc := "(LElephantEdge$Land;IIZ)V" } : Jvm.MethodName) prog_19_method_2_code (8 : Nat) (Option.none : Option Jvm.ClassFile.FieldType)) ∈ lw_all := lw_g (lw_at lw_m2 190 rfl) rfl
theorem q541 : (Jvm.Cond.constant "ElephantEdge$Ways" (22 : Nat) (1000000000 : Int32)) ∈ lw_all := lw_g (lw_at lw_m2 191 rfl) rfl
theorem q542 : (Jvm.Cond.methodLink "ElephantEdge$Ways" (23 : Nat) ({ cls := "ElephantEdge$Ways", name := "nearest", desc := "()I" } : Jvm.MethodName)) ∈ lw_all := lw_g (lw_at lw_m2 192 rfl) rfl
theorem q543 : (Jvm.Cond.privateMethod ({ cls := "ElephantEdge$Ways", name := "nearest", desc := "()I" } : Jvm.MethodName)) ∈ lw_tbl := lw_at lw_m2 193 rfl
theorem q544 : (Jvm.Cond.instanceMethod ({ cls := "ElephantEdge$Ways", name := "nearest", desc := "()I" } : Jvm.MethodName)) ∈ lw_all := lw_g (lw_at lw_m2 194 rfl) rfl
theorem q545 : (Jvm.Cond.code ({ cls := "ElephantEdge$Ways", name := "nearest", desc := "()I" } : Jvm.MethodName) prog_19_method_3_code (3 : Nat) (Option.some Jvm.ClassFile.FieldType.int)) ∈ lw_all := lw_g (lw_at lw_m2 195 rfl) rfl
theorem q546 : (Jvm.Cond.methodLinkNest "ElephantEdge$Ways" (27 : Nat) ({ cls := "ElephantEdge", name := "next", desc := "(II)I" } : Jvm.MethodName) "ElephantEdge") ∈ lw_tbl := lw_at lw_m2 196 rfl
theorem q547 : (Jvm.Cond.methodLink "ElephantEdge$Ways" (31 : Nat) ({ cls := "ElephantEdge$Land", name := "isOpen", desc := "(I)Z" } : Jvm.MethodName)) ∈ lw_all := lw_g (lw_at lw_m2 197 rfl) rfl
theorem q551 : (Jvm.Cond.methodLink "ElephantEdge$Ways" (37 : Nat) ({ cls := "ElephantEdge$Land", name := "step", desc := "(III)I" } : Jvm.MethodName)) ∈ lw_all := lw_g (lw_at lw_m2 201 rfl) rfl
theorem q562 : (Jvm.Cond.methodLink "ElephantEdge$Ways" (41 : Nat) ({ cls := "java/lang/Math", name := "min", desc := "(II)I" } : Jvm.MethodName)) ∈ lw_all := lw_g (lw_at lw_m2 212 rfl) rfl
theorem q575 : (Jvm.Cond.instanceMethod ({ cls := "ElephantEdge$Ways", name := "goes", desc := "(LElephantEdge$Land;III)V" } : Jvm.MethodName)) ∈ lw_all := lw_g (lw_at lw_m2 225 rfl) rfl
theorem q576 : (Jvm.Cond.selects "ElephantEdge$Ways" ({ cls := "ElephantEdge$Ways", name := "goes", desc := "(LElephantEdge$Land;III)V" } : Jvm.MethodName) ({ cls := "ElephantEdge$Ways", name := "goes", desc := "(LElephantEdge$Land;III)V" } : Jvm.MethodName)) ∈ lw_all := lw_g (lw_at lw_m2 226 rfl) rfl
theorem q577 : (Jvm.Cond.code ({ cls := "ElephantEdge$Ways", name := "goes", desc := "(LElephantEdge$Land;III)V" } : Jvm.MethodName) prog_19_method_4_code (7 : Nat) (Option.none : Option Jvm.ClassFile.FieldType)) ∈ lw_all := lw_g (lw_at lw_m2 227 rfl) rfl
theorem q578 : (Jvm.Cond.methodLink "ElephantEdge$Ways" (50 : Nat) ({ cls := "ElephantEdge$Ways", name := "from", desc := "(LElephantEdge$Land;IIZ)V" } : Jvm.MethodName)) ∈ lw_all := lw_g (lw_at lw_m2 228 rfl) rfl
theorem q675 : (Jvm.Cond.selects "ElephantEdge$Ways" ({ cls := "java/lang/Object", name := "getClass", desc := "()Ljava/lang/Class;" } : Jvm.MethodName) ({ cls := "java/lang/Object", name := "getClass", desc := "()Ljava/lang/Class;" } : Jvm.MethodName)) ∈ lw_all := lw_g (lw_at lw_m3 85 rfl) rfl
theorem q2514 : (Jvm.Cond.castable "ElephantEdge$Ways" "java/lang/Object") ∈ lw_tbl := lw_at lw_m11 4 rfl
theorem in_X3 : ∀ w ∈ wsX30, w ∈ lw_all := lw_in wsX30 [215, 217, 219, 221] (by decide +kernel) (by decide +kernel)
/-! ElephantEdge$Steps -/
def RX4 : String := "ElephantEdge$Steps"
def TX4 : u_T := fun k => match k with
  | 0 => ("ElephantEdge$Steps", "far", "[I", true)
  | _ => ("ElephantEdge$Steps", "row", "[I", true)
def tyX4 : Nat → FieldType := fun k => match k with
  | 0 => .array .int
  | _ => .array .int
abbrev wsX40 : List Cond := u_ws RX4 TX4 2
theorem nmX4 : ∀ a, a < 2 → ∀ b, b < 2 → a ≠ b → (TX4 a).2.1 ≠ (TX4 b).2.1 := by decide +kernel
theorem tyX4_ok : ∀ k, k < 2 → parseFieldDescriptor (TX4 k).2.2.1 = some (tyX4 k) := by decide +kernel
abbrev cX4_init : ByteArray := prog_15_method_1_code
def yX4_init : MethodName := ⟨RX4, "<init>", "()V"⟩
abbrev cX4_from : ByteArray := prog_15_method_2_code
def yX4_from : MethodName := ⟨RX4, "from", "(I[Z)V"⟩
theorem q114 : (Jvm.Cond.initialized "ElephantEdge$Steps") ∈ lw_all := lw_g (lw_at lw_m1 4 rfl) rfl
theorem q226 : (Jvm.Cond.instantiable "ElephantEdge$Steps" (2 : Nat)) ∈ lw_all := lw_g (lw_at lw_m1 116 rfl) rfl
theorem q228 : (Jvm.Cond.instanceMethod ({ cls := "ElephantEdge$Steps", name := "<init>", desc := "()V" } : Jvm.MethodName)) ∈ lw_all := lw_g (lw_at lw_m1 118 rfl) rfl
theorem q229 : (Jvm.Cond.code ({ cls := "ElephantEdge$Steps", name := "<init>", desc := "()V" } : Jvm.MethodName) prog_15_method_1_code (1 : Nat) (Option.none : Option Jvm.ClassFile.FieldType)) ∈ lw_all := lw_g (lw_at lw_m1 119 rfl) rfl
theorem q230 : (Jvm.Cond.methodLink "ElephantEdge$Steps" (3 : Nat) ({ cls := "java/lang/Object", name := "<init>", desc := "()V" } : Jvm.MethodName)) ∈ lw_all := lw_g (lw_at lw_m1 120 rfl) rfl
theorem q231 : (Jvm.Cond.fieldLink "ElephantEdge$Steps" (9 : Nat) "ElephantEdge$Steps" "far" "[I") ∈ lw_all := lw_g (lw_at lw_m1 121 rfl) rfl
theorem q233 : (Jvm.Cond.fieldLink "ElephantEdge$Steps" (15 : Nat) "ElephantEdge$Steps" "row" "[I") ∈ lw_all := lw_g (lw_at lw_m1 123 rfl) rfl
theorem q234 : (Jvm.Cond.laysFinal "ElephantEdge$Steps" "ElephantEdge$Steps" "far" "[I") ∈ lw_all := lw_g (lw_at lw_m1 124 rfl) rfl
theorem q235 : (Jvm.Cond.soleField "ElephantEdge$Steps" "far") ∈ lw_all := lw_g (lw_at lw_m1 125 rfl) rfl
theorem q236 : (Jvm.Cond.laysFinal "ElephantEdge$Steps" "ElephantEdge$Steps" "row" "[I") ∈ lw_all := lw_g (lw_at lw_m1 126 rfl) rfl
theorem q237 : (Jvm.Cond.soleField "ElephantEdge$Steps" "row") ∈ lw_all := lw_g (lw_at lw_m1 127 rfl) rfl
theorem q238 : (Jvm.Cond.superclass "ElephantEdge$Steps" "java/lang/Object") ∈ lw_all := lw_g (lw_at lw_m1 128 rfl) rfl
theorem q672 : (Jvm.Cond.selects "ElephantEdge$Steps" ({ cls := "java/lang/Object", name := "getClass", desc := "()Ljava/lang/Class;" } : Jvm.MethodName) ({ cls := "java/lang/Object", name := "getClass", desc := "()Ljava/lang/Class;" } : Jvm.MethodName)) ∈ lw_all := lw_g (lw_at lw_m3 82 rfl) rfl
theorem q1509 : (Jvm.Cond.instanceMethod ({ cls := "ElephantEdge$Steps", name := "from", desc := "(I[Z)V" } : Jvm.MethodName)) ∈ lw_all := lw_g (lw_at lw_m6 199 rfl) rfl
theorem q1510 : (Jvm.Cond.selects "ElephantEdge$Steps" ({ cls := "ElephantEdge$Steps", name := "from", desc := "(I[Z)V" } : Jvm.MethodName) ({ cls := "ElephantEdge$Steps", name := "from", desc := "(I[Z)V" } : Jvm.MethodName)) ∈ lw_all := lw_g (lw_at lw_m6 200 rfl) rfl
theorem q1511 : (Jvm.Cond.code ({ cls := "ElephantEdge$Steps", name := "from", desc := "(I[Z)V" } : Jvm.MethodName) prog_15_method_2_code (7 : Nat) (Option.none : Option Jvm.ClassFile.FieldType)) ∈ lw_all := lw_g (lw_at lw_m6 201 rfl) rfl
theorem q1512 : (Jvm.Cond.constant "ElephantEdge$Steps" (18 : Nat) (1000000000 : Int32)) ∈ lw_all := lw_g (lw_at lw_m6 202 rfl) rfl
theorem q1513 : (Jvm.Cond.methodLinkNest "ElephantEdge$Steps" (19 : Nat) ({ cls := "ElephantEdge", name := "next", desc := "(II)I" } : Jvm.MethodName) "ElephantEdge") ∈ lw_tbl := lw_at lw_m6 203 rfl
theorem q2515 : (Jvm.Cond.castable "ElephantEdge$Steps" "java/lang/Object") ∈ lw_tbl := lw_at lw_m11 5 rfl
theorem in_X4 : ∀ w ∈ wsX40, w ∈ lw_all := lw_in wsX40 [234, 236] (by decide +kernel) (by decide +kernel)
/-! java/util/AbstractCollection -/
def RJ0 : String := "java/util/AbstractCollection"
abbrev cJ0_init : ByteArray := prog_44_method_1_code
def yJ0_init : MethodName := ⟨RJ0, "<init>", "()V"⟩
theorem q115 : (Jvm.Cond.initialized "java/util/AbstractCollection") ∈ lw_all := lw_g (lw_at lw_m1 5 rfl) rfl
theorem q248 : (Jvm.Cond.instanceMethod ({ cls := "java/util/AbstractCollection", name := "<init>", desc := "()V" } : Jvm.MethodName)) ∈ lw_all := lw_g (lw_at lw_m1 138 rfl) rfl
theorem q249 : (Jvm.Cond.code ({ cls := "java/util/AbstractCollection", name := "<init>", desc := "()V" } : Jvm.MethodName) prog_44_method_1_code (1 : Nat) (Option.none : Option Jvm.ClassFile.FieldType)) ∈ lw_all := lw_g (lw_at lw_m1 139 rfl) rfl
theorem q250 : (Jvm.Cond.methodLink "java/util/AbstractCollection" (1 : Nat) ({ cls := "java/lang/Object", name := "<init>", desc := "()V" } : Jvm.MethodName)) ∈ lw_all := lw_g (lw_at lw_m1 140 rfl) rfl
/-! java/util/AbstractList -/
def RJ1 : String := "java/util/AbstractList"
abbrev cJ1_init : ByteArray := prog_45_method_1_code
def yJ1_init : MethodName := ⟨RJ1, "<init>", "()V"⟩
theorem q116 : (Jvm.Cond.initialized "java/util/AbstractList") ∈ lw_all := lw_g (lw_at lw_m1 6 rfl) rfl
theorem q245 : (Jvm.Cond.instanceMethod ({ cls := "java/util/AbstractList", name := "<init>", desc := "()V" } : Jvm.MethodName)) ∈ lw_all := lw_g (lw_at lw_m1 135 rfl) rfl
theorem q246 : (Jvm.Cond.code ({ cls := "java/util/AbstractList", name := "<init>", desc := "()V" } : Jvm.MethodName) prog_45_method_1_code (1 : Nat) (Option.none : Option Jvm.ClassFile.FieldType)) ∈ lw_all := lw_g (lw_at lw_m1 136 rfl) rfl
theorem q247 : (Jvm.Cond.methodLink "java/util/AbstractList" (1 : Nat) ({ cls := "java/util/AbstractCollection", name := "<init>", desc := "()V" } : Jvm.MethodName)) ∈ lw_all := lw_g (lw_at lw_m1 137 rfl) rfl
theorem q255 : (Jvm.Cond.fieldLink "java/util/AbstractList" (7 : Nat) "java/util/AbstractList" "modCount" "I") ∈ lw_all := lw_g (lw_at lw_m1 145 rfl) rfl
theorem q263 : (Jvm.Cond.soleField "java/util/AbstractList" "modCount") ∈ lw_all := lw_g (lw_at lw_m1 153 rfl) rfl
/-! java/util/ArrayList -/
def RJ2 : String := "java/util/ArrayList"
def TJ2 : u_T := fun k => match k with
  | 0 => ("java/util/AbstractList", "modCount", "I", false)
  | 1 => ("java/util/ArrayList", "elementData", "[Ljava/lang/Object;", false)
  | _ => ("java/util/ArrayList", "size", "I", false)
def tyJ2 : Nat → FieldType := fun k => match k with
  | 0 => .int
  | 1 => .array (.object "java/lang/Object")
  | _ => .int
abbrev wsJ20 : List Cond := u_ws RJ2 TJ2 3
theorem nmJ2 : ∀ a, a < 3 → ∀ b, b < 3 → a ≠ b → (TJ2 a).2.1 ≠ (TJ2 b).2.1 := by decide +kernel
theorem tyJ2_ok : ∀ k, k < 3 → parseFieldDescriptor (TJ2 k).2.2.1 = some (tyJ2 k) := by decide +kernel
abbrev cJ2_init : ByteArray := prog_46_method_2_code
def yJ2_init : MethodName := ⟨RJ2, "<init>", "()V"⟩
abbrev cJ2_size : ByteArray := prog_46_method_8_code
def yJ2_size : MethodName := ⟨RJ2, "size", "()I"⟩
abbrev cJ2_get : ByteArray := prog_46_method_20_code
def yJ2_get : MethodName := ⟨RJ2, "get", "(I)Ljava/lang/Object;"⟩
abbrev cJ2_elementData : ByteArray := prog_46_method_18_code
def yJ2_elementData : MethodName := ⟨RJ2, "elementData", "(I)Ljava/lang/Object;"⟩
abbrev cJ2_add : ByteArray := prog_46_method_25_code
def yJ2_add : MethodName := ⟨RJ2, "add", "(Ljava/lang/Object;)Z"⟩
abbrev cJ2_add_2 : ByteArray := prog_46_method_24_code
def yJ2_add_2 : MethodName := ⟨RJ2, "add", "(Ljava/lang/Object;[Ljava/lang/Object;I)V"⟩
abbrev cJ2_grow : ByteArray := prog_46_method_7_code
def yJ2_grow : MethodName := ⟨RJ2, "grow", "()[Ljava/lang/Object;"⟩
abbrev cJ2_grow_2 : ByteArray := prog_46_method_6_code
def yJ2_grow_2 : MethodName := ⟨RJ2, "grow", "(I)[Ljava/lang/Object;"⟩
theorem q117 : (Jvm.Cond.initialized "java/util/ArrayList") ∈ lw_all := lw_g (lw_at lw_m1 7 rfl) rfl
theorem q240 : (Jvm.Cond.instantiable "java/util/ArrayList" (3 : Nat)) ∈ lw_all := lw_g (lw_at lw_m1 130 rfl) rfl
theorem q242 : (Jvm.Cond.instanceMethod ({ cls := "java/util/ArrayList", name := "<init>", desc := "()V" } : Jvm.MethodName)) ∈ lw_all := lw_g (lw_at lw_m1 132 rfl) rfl
theorem q243 : (Jvm.Cond.code ({ cls := "java/util/ArrayList", name := "<init>", desc := "()V" } : Jvm.MethodName) prog_46_method_2_code (1 : Nat) (Option.none : Option Jvm.ClassFile.FieldType)) ∈ lw_all := lw_g (lw_at lw_m1 133 rfl) rfl
theorem q244 : (Jvm.Cond.methodLink "java/util/ArrayList" (1 : Nat) ({ cls := "java/util/AbstractList", name := "<init>", desc := "()V" } : Jvm.MethodName)) ∈ lw_all := lw_g (lw_at lw_m1 134 rfl) rfl
theorem q251 : (Jvm.Cond.fieldLink "java/util/ArrayList" (39 : Nat) "java/util/ArrayList" "DEFAULTCAPACITY_EMPTY_ELEMENTDATA" "[Ljava/lang/Object;") ∈ lw_all := lw_g (lw_at lw_m1 141 rfl) rfl
theorem q252 : (Jvm.Cond.laysStatic "java/util/ArrayList" "DEFAULTCAPACITY_EMPTY_ELEMENTDATA" "[Ljava/lang/Object;") ∈ lw_tbl := lw_at lw_m1 142 rfl
theorem q253 : (Jvm.Cond.fieldLink "java/util/ArrayList" (9 : Nat) "java/util/ArrayList" "elementData" "[Ljava/lang/Object;") ∈ lw_all := lw_g (lw_at lw_m1 143 rfl) rfl
theorem q254 : (Jvm.Cond.fieldLink "java/util/ArrayList" (48 : Nat) "java/util/ArrayList" "size" "I") ∈ lw_all := lw_g (lw_at lw_m1 144 rfl) rfl
theorem q256 : (Jvm.Cond.fieldLink "java/util/ArrayList" (63 : Nat) "java/util/ArrayList" "modCount" "I") ∈ lw_all := lw_g (lw_at lw_m1 146 rfl) rfl
theorem q257 : (Jvm.Cond.sameField "java/util/ArrayList" "java/util/AbstractList" "modCount" "I") ∈ lw_all := lw_g (lw_at lw_m1 147 rfl) rfl
theorem q258 : (Jvm.Cond.lays "java/util/ArrayList" "java/util/ArrayList" "elementData" "[Ljava/lang/Object;") ∈ lw_all := lw_g (lw_at lw_m1 148 rfl) rfl
theorem q259 : (Jvm.Cond.soleField "java/util/ArrayList" "elementData") ∈ lw_all := lw_g (lw_at lw_m1 149 rfl) rfl
theorem q260 : (Jvm.Cond.lays "java/util/ArrayList" "java/util/ArrayList" "size" "I") ∈ lw_all := lw_g (lw_at lw_m1 150 rfl) rfl
theorem q261 : (Jvm.Cond.soleField "java/util/ArrayList" "size") ∈ lw_all := lw_g (lw_at lw_m1 151 rfl) rfl
theorem q262 : (Jvm.Cond.lays "java/util/ArrayList" "java/util/AbstractList" "modCount" "I") ∈ lw_all := lw_g (lw_at lw_m1 152 rfl) rfl
theorem q264 : (Jvm.Cond.superclass "java/util/ArrayList" "java/util/AbstractList") ∈ lw_all := lw_g (lw_at lw_m1 154 rfl) rfl
theorem q515 : (Jvm.Cond.instanceMethod ({ cls := "java/util/ArrayList", name := "size", desc := "()I" } : Jvm.MethodName)) ∈ lw_all := lw_g (lw_at lw_m2 165 rfl) rfl
theorem q516 : (Jvm.Cond.selects "java/util/ArrayList" ({ cls := "java/util/ArrayList", name := "size", desc := "()I" } : Jvm.MethodName) ({ cls := "java/util/ArrayList", name := "size", desc := "()I" } : Jvm.MethodName)) ∈ lw_all := lw_g (lw_at lw_m2 166 rfl) rfl
theorem q517 : (Jvm.Cond.code ({ cls := "java/util/ArrayList", name := "size", desc := "()I" } : Jvm.MethodName) prog_46_method_8_code (1 : Nat) (Option.some Jvm.ClassFile.FieldType.int)) ∈ lw_all := lw_g (lw_at lw_m2 167 rfl) rfl
theorem q519 : (Jvm.Cond.instanceMethod ({ cls := "java/util/ArrayList", name := "get", desc := "(I)Ljava/lang/Object;" } : Jvm.MethodName)) ∈ lw_all := lw_g (lw_at lw_m2 169 rfl) rfl
theorem q520 : (Jvm.Cond.selects "java/util/ArrayList" ({ cls := "java/util/ArrayList", name := "get", desc := "(I)Ljava/lang/Object;" } : Jvm.MethodName) ({ cls := "java/util/ArrayList", name := "get", desc := "(I)Ljava/lang/Object;" } : Jvm.MethodName)) ∈ lw_all := lw_g (lw_at lw_m2 170 rfl) rfl
theorem q521 : (Jvm.Cond.code ({ cls := "java/util/ArrayList", name := "get", desc := "(I)Ljava/lang/Object;" } : Jvm.MethodName) prog_46_method_20_code (2 : Nat) (Option.some (Jvm.ClassFile.FieldType.object "java/lang/Object"))) ∈ lw_all := lw_g (lw_at lw_m2 171 rfl) rfl
theorem q522 : (Jvm.Cond.methodLink "java/util/ArrayList" (118 : Nat) ({ cls := "java/util/Objects", name := "checkIndex", desc := "(II)I" } : Jvm.MethodName)) ∈ lw_all := lw_g (lw_at lw_m2 172 rfl) rfl
theorem q528 : (Jvm.Cond.methodLink "java/util/ArrayList" (123 : Nat) ({ cls := "java/util/ArrayList", name := "elementData", desc := "(I)Ljava/lang/Object;" } : Jvm.MethodName)) ∈ lw_all := lw_g (lw_at lw_m2 178 rfl) rfl
theorem q529 : (Jvm.Cond.instanceMethod ({ cls := "java/util/ArrayList", name := "elementData", desc := "(I)Ljava/lang/Object;" } : Jvm.MethodName)) ∈ lw_all := lw_g (lw_at lw_m2 179 rfl) rfl
theorem q530 : (Jvm.Cond.selects "java/util/ArrayList" ({ cls := "java/util/ArrayList", name := "elementData", desc := "(I)Ljava/lang/Object;" } : Jvm.MethodName) ({ cls := "java/util/ArrayList", name := "elementData", desc := "(I)Ljava/lang/Object;" } : Jvm.MethodName)) ∈ lw_all := lw_g (lw_at lw_m2 180 rfl) rfl
theorem q531 : (Jvm.Cond.code ({ cls := "java/util/ArrayList", name := "elementData", desc := "(I)Ljava/lang/Object;" } : Jvm.MethodName) prog_46_method_18_code (2 : Nat) (Option.some (Jvm.ClassFile.FieldType.object "java/lang/Object"))) ∈ lw_all := lw_g (lw_at lw_m2 181 rfl) rfl
theorem q630 : (Jvm.Cond.instanceMethod ({ cls := "java/util/ArrayList", name := "add", desc := "(Ljava/lang/Object;)Z" } : Jvm.MethodName)) ∈ lw_all := lw_g (lw_at lw_m3 40 rfl) rfl
theorem q631 : (Jvm.Cond.selects "java/util/ArrayList" ({ cls := "java/util/ArrayList", name := "add", desc := "(Ljava/lang/Object;)Z" } : Jvm.MethodName) ({ cls := "java/util/ArrayList", name := "add", desc := "(Ljava/lang/Object;)Z" } : Jvm.MethodName)) ∈ lw_all := lw_g (lw_at lw_m3 41 rfl) rfl
theorem q632 : (Jvm.Cond.code ({ cls := "java/util/ArrayList", name := "add", desc := "(Ljava/lang/Object;)Z" } : Jvm.MethodName) prog_46_method_25_code (2 : Nat) (Option.some Jvm.ClassFile.FieldType.boolean)) ∈ lw_all := lw_g (lw_at lw_m3 42 rfl) rfl
theorem q633 : (Jvm.Cond.methodLink "java/util/ArrayList" (131 : Nat) ({ cls := "java/util/ArrayList", name := "add", desc := "(Ljava/lang/Object;[Ljava/lang/Object;I)V" } : Jvm.MethodName)) ∈ lw_all := lw_g (lw_at lw_m3 43 rfl) rfl
theorem q634 : (Jvm.Cond.privateMethod ({ cls := "java/util/ArrayList", name := "add", desc := "(Ljava/lang/Object;[Ljava/lang/Object;I)V" } : Jvm.MethodName)) ∈ lw_tbl := lw_at lw_m3 44 rfl
theorem q635 : (Jvm.Cond.instanceMethod ({ cls := "java/util/ArrayList", name := "add", desc := "(Ljava/lang/Object;[Ljava/lang/Object;I)V" } : Jvm.MethodName)) ∈ lw_all := lw_g (lw_at lw_m3 45 rfl) rfl
theorem q636 : (Jvm.Cond.code ({ cls := "java/util/ArrayList", name := "add", desc := "(Ljava/lang/Object;[Ljava/lang/Object;I)V" } : Jvm.MethodName) prog_46_method_24_code (4 : Nat) (Option.none : Option Jvm.ClassFile.FieldType)) ∈ lw_all := lw_g (lw_at lw_m3 46 rfl) rfl
theorem q637 : (Jvm.Cond.methodLink "java/util/ArrayList" (129 : Nat) ({ cls := "java/util/ArrayList", name := "grow", desc := "()[Ljava/lang/Object;" } : Jvm.MethodName)) ∈ lw_all := lw_g (lw_at lw_m3 47 rfl) rfl
theorem q638 : (Jvm.Cond.privateMethod ({ cls := "java/util/ArrayList", name := "grow", desc := "()[Ljava/lang/Object;" } : Jvm.MethodName)) ∈ lw_tbl := lw_at lw_m3 48 rfl
theorem q639 : (Jvm.Cond.instanceMethod ({ cls := "java/util/ArrayList", name := "grow", desc := "()[Ljava/lang/Object;" } : Jvm.MethodName)) ∈ lw_all := lw_g (lw_at lw_m3 49 rfl) rfl
theorem q640 : (Jvm.Cond.code ({ cls := "java/util/ArrayList", name := "grow", desc := "()[Ljava/lang/Object;" } : Jvm.MethodName) prog_46_method_7_code (1 : Nat) (Option.some (Jvm.ClassFile.FieldType.array (Jvm.ClassFile.FieldType.object "java/lang/Object")))) ∈ lw_all := lw_g (lw_at lw_m3 50 rfl) rfl
theorem q641 : (Jvm.Cond.methodLink "java/util/ArrayList" (69 : Nat) ({ cls := "java/util/ArrayList", name := "grow", desc := "(I)[Ljava/lang/Object;" } : Jvm.MethodName)) ∈ lw_all := lw_g (lw_at lw_m3 51 rfl) rfl
theorem q642 : (Jvm.Cond.privateMethod ({ cls := "java/util/ArrayList", name := "grow", desc := "(I)[Ljava/lang/Object;" } : Jvm.MethodName)) ∈ lw_tbl := lw_at lw_m3 52 rfl
theorem q643 : (Jvm.Cond.instanceMethod ({ cls := "java/util/ArrayList", name := "grow", desc := "(I)[Ljava/lang/Object;" } : Jvm.MethodName)) ∈ lw_all := lw_g (lw_at lw_m3 53 rfl) rfl
theorem q644 : (Jvm.Cond.code ({ cls := "java/util/ArrayList", name := "grow", desc := "(I)[Ljava/lang/Object;" } : Jvm.MethodName) prog_46_method_6_code (4 : Nat) (Option.some (Jvm.ClassFile.FieldType.array (Jvm.ClassFile.FieldType.object "java/lang/Object")))) ∈ lw_all := lw_g (lw_at lw_m3 54 rfl) rfl
theorem q645 : (Jvm.Cond.methodLink "java/util/ArrayList" (73 : Nat) ({ cls := "jdk/internal/util/ArraysSupport", name := "newLength", desc := "(III)I" } : Jvm.MethodName)) ∈ lw_all := lw_g (lw_at lw_m3 55 rfl) rfl
theorem q653 : (Jvm.Cond.methodLink "java/util/ArrayList" (66 : Nat) ({ cls := "java/util/Arrays", name := "copyOf", desc := "([Ljava/lang/Object;I)[Ljava/lang/Object;" } : Jvm.MethodName)) ∈ lw_all := lw_g (lw_at lw_m3 63 rfl) rfl
theorem q683 : (Jvm.Cond.selects "java/util/ArrayList" ({ cls := "java/lang/Object", name := "getClass", desc := "()Ljava/lang/Class;" } : Jvm.MethodName) ({ cls := "java/lang/Object", name := "getClass", desc := "()Ljava/lang/Class;" } : Jvm.MethodName)) ∈ lw_all := lw_g (lw_at lw_m3 93 rfl) rfl
theorem q694 : (Jvm.Cond.methodLink "java/util/ArrayList" (79 : Nat) ({ cls := "java/lang/Math", name := "max", desc := "(II)I" } : Jvm.MethodName)) ∈ lw_all := lw_g (lw_at lw_m3 104 rfl) rfl
theorem q695 : (Jvm.Cond.classLink "java/util/ArrayList" (7 : Nat) "java/lang/Object") ∈ lw_all := lw_g (lw_at lw_m3 105 rfl) rfl
theorem q2516 : (Jvm.Cond.castable "java/util/ArrayList" "java/lang/Object") ∈ lw_tbl := lw_at lw_m11 6 rfl
theorem in_J2 : ∀ w ∈ wsJ20, w ∈ lw_all := lw_in wsJ20 [262, 258, 260] (by decide +kernel) (by decide +kernel)
/-! ElephantEdge$Rule -/
def RX5 : String := "ElephantEdge$Rule"
def TX5 : u_T := fun k => match k with
  | 0 => ("ElephantEdge$Rule", "size", "I", true)
  | 1 => ("ElephantEdge$Rule", "likes", "[[I", true)
  | 2 => ("ElephantEdge$Rule", "told", "[I", true)
  | 3 => ("ElephantEdge$Rule", "step", "I", false)
  | 4 => ("ElephantEdge$Rule", "scare", "I", false)
  | 5 => ("ElephantEdge$Rule", "wear", "I", false)
  | 6 => ("ElephantEdge$Rule", "cap", "I", false)
  | 7 => ("ElephantEdge$Rule", "pay", "LElephantEdge$Formula;", false)
  | 8 => ("ElephantEdge$Rule", "at", "I", false)
  | 9 => ("ElephantEdge$Rule", "many", "I", false)
  | 10 => ("ElephantEdge$Rule", "open", "I", false)
  | _ => ("ElephantEdge$Rule", "this$0", "LElephantEdge;", true)
def tyX5 : Nat → FieldType := fun k => match k with
  | 0 => .int
  | 1 => .array (.array .int)
  | 2 => .array .int
  | 3 => .int
  | 4 => .int
  | 5 => .int
  | 6 => .int
  | 7 => .object "ElephantEdge$Formula"
  | 8 => .int
  | 9 => .int
  | 10 => .int
  | _ => .object "ElephantEdge"
abbrev wsX50 : List Cond := u_ws RX5 TX5 12
theorem nmX5 : ∀ a, a < 12 → ∀ b, b < 12 → a ≠ b → (TX5 a).2.1 ≠ (TX5 b).2.1 := by decide +kernel
theorem tyX5_ok : ∀ k, k < 12 → parseFieldDescriptor (TX5 k).2.2.1 = some (tyX5 k) := by decide +kernel
abbrev cX5_init : ByteArray := prog_14_method_1_code
def yX5_init : MethodName := ⟨RX5, "<init>", "(LElephantEdge;I)V"⟩
abbrev cX5_like : ByteArray := prog_14_method_2_code
def yX5_like : MethodName := ⟨RX5, "like", "(II)I"⟩
abbrev cX5_read : ByteArray := prog_14_method_3_code
def yX5_read : MethodName := ⟨RX5, "read", "()V"⟩
abbrev cX5_now : ByteArray := prog_14_method_13_code
def yX5_now : MethodName := ⟨RX5, "now", "()I"⟩
abbrev cX5_right : ByteArray := prog_14_method_11_code
def yX5_right : MethodName := ⟨RX5, "right", "(Z)V"⟩
abbrev cX5_clause : ByteArray := prog_14_method_4_code
def yX5_clause : MethodName := ⟨RX5, "clause", "()V"⟩
abbrev cX5_eats : ByteArray := prog_14_method_15_code
def yX5_eats : MethodName := ⟨RX5, "eats", "(Ljava/lang/String;)Z"⟩
abbrev cX5_isSmall : ByteArray := prog_14_method_14_code
def yX5_isSmall : MethodName := ⟨RX5, "isSmall", "(I)Z"⟩
abbrev cX5_likes : ByteArray := prog_14_method_5_code
def yX5_likes : MethodName := ⟨RX5, "likes", "()V"⟩
abbrev cX5_number : ByteArray := prog_14_method_10_code
def yX5_number : MethodName := ⟨RX5, "number", "(II)I"⟩
abbrev cX5_sum : ByteArray := prog_14_method_6_code
def yX5_sum : MethodName := ⟨RX5, "sum", "()LElephantEdge$Formula;"⟩
abbrev cX5_product : ByteArray := prog_14_method_7_code
def yX5_product : MethodName := ⟨RX5, "product", "()LElephantEdge$Formula;"⟩
abbrev cX5_one : ByteArray := prog_14_method_8_code
def yX5_one : MethodName := ⟨RX5, "one", "()LElephantEdge$Formula;"⟩
abbrev cX5_choice : ByteArray := prog_14_method_9_code
def yX5_choice : MethodName := ⟨RX5, "choice", "()LElephantEdge$Formula;"⟩
abbrev cX5_sign : ByteArray := prog_14_method_12_code
def yX5_sign : MethodName := ⟨RX5, "sign", "(I)V"⟩
theorem q118 : (Jvm.Cond.initialized "ElephantEdge$Rule") ∈ lw_all := lw_g (lw_at lw_m1 8 rfl) rfl
theorem q268 : (Jvm.Cond.instantiable "ElephantEdge$Rule" (12 : Nat)) ∈ lw_all := lw_g (lw_at lw_m1 158 rfl) rfl
theorem q270 : (Jvm.Cond.instanceMethod ({ cls := "ElephantEdge$Rule", name := "<init>", desc := "(LElephantEdge;I)V" } : Jvm.MethodName)) ∈ lw_all := lw_g (lw_at lw_m1 160 rfl) rfl
theorem q271 : (Jvm.Cond.code ({ cls := "ElephantEdge$Rule", name := "<init>", desc := "(LElephantEdge;I)V" } : Jvm.MethodName) prog_14_method_1_code (4 : Nat) (Option.none : Option Jvm.ClassFile.FieldType)) ∈ lw_all := lw_g (lw_at lw_m1 161 rfl) rfl
theorem q272 : (Jvm.Cond.methodLink "ElephantEdge$Rule" (9 : Nat) ({ cls := "java/lang/Object", name := "<init>", desc := "()V" } : Jvm.MethodName)) ∈ lw_all := lw_g (lw_at lw_m1 162 rfl) rfl
theorem q273 : (Jvm.Cond.classLink "ElephantEdge$Rule" (15 : Nat) "[[I") ∈ lw_all := lw_g (lw_at lw_m1 163 rfl) rfl
theorem q275 : (Jvm.Cond.classLink "ElephantEdge$Rule" (37 : Nat) "ElephantEdge$Sum") ∈ lw_all := lw_g (lw_at lw_m1 165 rfl) rfl
theorem q277 : (Jvm.Cond.classLink "ElephantEdge$Rule" (39 : Nat) "ElephantEdge$Name") ∈ lw_all := lw_g (lw_at lw_m1 167 rfl) rfl
theorem q279 : (Jvm.Cond.methodLink "ElephantEdge$Rule" (41 : Nat) ({ cls := "ElephantEdge$Name", name := "<init>", desc := "(I)V" } : Jvm.MethodName)) ∈ lw_all := lw_g (lw_at lw_m1 169 rfl) rfl
theorem q287 : (Jvm.Cond.classLink "ElephantEdge$Rule" (44 : Nat) "ElephantEdge$Number") ∈ lw_all := lw_g (lw_at lw_m1 177 rfl) rfl
theorem q289 : (Jvm.Cond.methodLink "ElephantEdge$Rule" (46 : Nat) ({ cls := "ElephantEdge$Number", name := "<init>", desc := "(I)V" } : Jvm.MethodName)) ∈ lw_all := lw_g (lw_at lw_m1 179 rfl) rfl
theorem q297 : (Jvm.Cond.methodLink "ElephantEdge$Rule" (47 : Nat) ({ cls := "ElephantEdge$Sum", name := "<init>", desc := "(ILElephantEdge$Formula;LElephantEdge$Formula;)V" } : Jvm.MethodName)) ∈ lw_all := lw_g (lw_at lw_m1 187 rfl) rfl
theorem q314 : (Jvm.Cond.fieldLink "ElephantEdge$Rule" (54 : Nat) "ElephantEdge$Rule" "size" "I") ∈ lw_all := lw_g (lw_at lw_m1 204 rfl) rfl
theorem q315 : (Jvm.Cond.fieldLink "ElephantEdge$Rule" (17 : Nat) "ElephantEdge$Rule" "likes" "[[I") ∈ lw_all := lw_g (lw_at lw_m1 205 rfl) rfl
theorem q316 : (Jvm.Cond.fieldLink "ElephantEdge$Rule" (20 : Nat) "ElephantEdge$Rule" "told" "[I") ∈ lw_all := lw_g (lw_at lw_m1 206 rfl) rfl
theorem q317 : (Jvm.Cond.fieldLink "ElephantEdge$Rule" (24 : Nat) "ElephantEdge$Rule" "step" "I") ∈ lw_all := lw_g (lw_at lw_m1 207 rfl) rfl
theorem q319 : (Jvm.Cond.fieldLink "ElephantEdge$Rule" (28 : Nat) "ElephantEdge$Rule" "scare" "I") ∈ lw_all := lw_g (lw_at lw_m1 209 rfl) rfl
theorem q321 : (Jvm.Cond.fieldLink "ElephantEdge$Rule" (31 : Nat) "ElephantEdge$Rule" "wear" "I") ∈ lw_all := lw_g (lw_at lw_m1 211 rfl) rfl
theorem q323 : (Jvm.Cond.fieldLink "ElephantEdge$Rule" (34 : Nat) "ElephantEdge$Rule" "cap" "I") ∈ lw_all := lw_g (lw_at lw_m1 213 rfl) rfl
theorem q325 : (Jvm.Cond.fieldLink "ElephantEdge$Rule" (50 : Nat) "ElephantEdge$Rule" "pay" "LElephantEdge$Formula;") ∈ lw_all := lw_g (lw_at lw_m1 215 rfl) rfl
theorem q327 : (Jvm.Cond.fieldLink "ElephantEdge$Rule" (111 : Nat) "ElephantEdge$Rule" "at" "I") ∈ lw_all := lw_g (lw_at lw_m1 217 rfl) rfl
theorem q329 : (Jvm.Cond.fieldLink "ElephantEdge$Rule" (67 : Nat) "ElephantEdge$Rule" "many" "I") ∈ lw_all := lw_g (lw_at lw_m1 219 rfl) rfl
theorem q331 : (Jvm.Cond.fieldLink "ElephantEdge$Rule" (126 : Nat) "ElephantEdge$Rule" "open" "I") ∈ lw_all := lw_g (lw_at lw_m1 221 rfl) rfl
theorem q332 : (Jvm.Cond.fieldLink "ElephantEdge$Rule" (3 : Nat) "ElephantEdge$Rule" "this$0" "LElephantEdge;") ∈ lw_all := lw_g (lw_at lw_m1 222 rfl) rfl
theorem q333 : (Jvm.Cond.laysFinal "ElephantEdge$Rule" "ElephantEdge$Rule" "size" "I") ∈ lw_all := lw_g (lw_at lw_m1 223 rfl) rfl
theorem q334 : (Jvm.Cond.soleField "ElephantEdge$Rule" "size") ∈ lw_all := lw_g (lw_at lw_m1 224 rfl) rfl
theorem q335 : (Jvm.Cond.laysFinal "ElephantEdge$Rule" "ElephantEdge$Rule" "likes" "[[I") ∈ lw_all := lw_g (lw_at lw_m1 225 rfl) rfl
theorem q336 : (Jvm.Cond.soleField "ElephantEdge$Rule" "likes") ∈ lw_all := lw_g (lw_at lw_m1 226 rfl) rfl
theorem q337 : (Jvm.Cond.laysFinal "ElephantEdge$Rule" "ElephantEdge$Rule" "told" "[I") ∈ lw_all := lw_g (lw_at lw_m1 227 rfl) rfl
theorem q338 : (Jvm.Cond.soleField "ElephantEdge$Rule" "told") ∈ lw_all := lw_g (lw_at lw_m1 228 rfl) rfl
theorem q339 : (Jvm.Cond.lays "ElephantEdge$Rule" "ElephantEdge$Rule" "step" "I") ∈ lw_all := lw_g (lw_at lw_m1 229 rfl) rfl
theorem q340 : (Jvm.Cond.soleField "ElephantEdge$Rule" "step") ∈ lw_all := lw_g (lw_at lw_m1 230 rfl) rfl
theorem q341 : (Jvm.Cond.lays "ElephantEdge$Rule" "ElephantEdge$Rule" "scare" "I") ∈ lw_all := lw_g (lw_at lw_m1 231 rfl) rfl
theorem q342 : (Jvm.Cond.soleField "ElephantEdge$Rule" "scare") ∈ lw_all := lw_g (lw_at lw_m1 232 rfl) rfl
theorem q343 : (Jvm.Cond.lays "ElephantEdge$Rule" "ElephantEdge$Rule" "wear" "I") ∈ lw_all := lw_g (lw_at lw_m1 233 rfl) rfl
theorem q344 : (Jvm.Cond.soleField "ElephantEdge$Rule" "wear") ∈ lw_all := lw_g (lw_at lw_m1 234 rfl) rfl
theorem q345 : (Jvm.Cond.lays "ElephantEdge$Rule" "ElephantEdge$Rule" "cap" "I") ∈ lw_all := lw_g (lw_at lw_m1 235 rfl) rfl
theorem q346 : (Jvm.Cond.soleField "ElephantEdge$Rule" "cap") ∈ lw_all := lw_g (lw_at lw_m1 236 rfl) rfl
theorem q347 : (Jvm.Cond.lays "ElephantEdge$Rule" "ElephantEdge$Rule" "pay" "LElephantEdge$Formula;") ∈ lw_all := lw_g (lw_at lw_m1 237 rfl) rfl
theorem q348 : (Jvm.Cond.soleField "ElephantEdge$Rule" "pay") ∈ lw_all := lw_g (lw_at lw_m1 238 rfl) rfl
theorem q349 : (Jvm.Cond.lays "ElephantEdge$Rule" "ElephantEdge$Rule" "at" "I") ∈ lw_all := lw_g (lw_at lw_m1 239 rfl) rfl
theorem q350 : (Jvm.Cond.soleField "ElephantEdge$Rule" "at") ∈ lw_all := lw_g (lw_at lw_m2 0 rfl) rfl
theorem q351 : (Jvm.Cond.lays "ElephantEdge$Rule" "ElephantEdge$Rule" "many" "I") ∈ lw_all := lw_g (lw_at lw_m2 1 rfl) rfl
theorem q352 : (Jvm.Cond.soleField "ElephantEdge$Rule" "many") ∈ lw_all := lw_g (lw_at lw_m2 2 rfl) rfl
theorem q353 : (Jvm.Cond.lays "ElephantEdge$Rule" "ElephantEdge$Rule" "open" "I") ∈ lw_all := lw_g (lw_at lw_m2 3 rfl) rfl
theorem q354 : (Jvm.Cond.soleField "ElephantEdge$Rule" "open") ∈ lw_all := lw_g (lw_at lw_m2 4 rfl) rfl
theorem q355 : (Jvm.Cond.laysFinal "ElephantEdge$Rule" "ElephantEdge$Rule" "this$0" "LElephantEdge;") ∈ lw_all := lw_g (lw_at lw_m2 5 rfl) rfl
theorem q356 : (Jvm.Cond.soleField "ElephantEdge$Rule" "this$0") ∈ lw_all := lw_g (lw_at lw_m2 6 rfl) rfl
theorem q357 : (Jvm.Cond.superclass "ElephantEdge$Rule" "java/lang/Object") ∈ lw_all := lw_g (lw_at lw_m2 7 rfl) rfl
theorem q359 : (Jvm.Cond.fieldLinkNest "ElephantEdge$Rule" (148 : Nat) "ElephantEdge" "tape" "[B" "ElephantEdge") ∈ lw_tbl := lw_at lw_m2 9 rfl
theorem q569 : (Jvm.Cond.instanceMethod ({ cls := "ElephantEdge$Rule", name := "like", desc := "(II)I" } : Jvm.MethodName)) ∈ lw_all := lw_g (lw_at lw_m2 219 rfl) rfl
theorem q570 : (Jvm.Cond.selects "ElephantEdge$Rule" ({ cls := "ElephantEdge$Rule", name := "like", desc := "(II)I" } : Jvm.MethodName) ({ cls := "ElephantEdge$Rule", name := "like", desc := "(II)I" } : Jvm.MethodName)) ∈ lw_all := lw_g (lw_at lw_m2 220 rfl) rfl
theorem q571 : (Jvm.Cond.code ({ cls := "ElephantEdge$Rule", name := "like", desc := "(II)I" } : Jvm.MethodName) prog_14_method_2_code (3 : Nat) (Option.some Jvm.ClassFile.FieldType.int)) ∈ lw_all := lw_g (lw_at lw_m2 221 rfl) rfl
theorem q572 : (Jvm.Cond.methodLink "ElephantEdge$Rule" (57 : Nat) ({ cls := "java/lang/Math", name := "min", desc := "(II)I" } : Jvm.MethodName)) ∈ lw_all := lw_g (lw_at lw_m2 222 rfl) rfl
theorem q671 : (Jvm.Cond.selects "ElephantEdge$Rule" ({ cls := "java/lang/Object", name := "getClass", desc := "()Ljava/lang/Class;" } : Jvm.MethodName) ({ cls := "java/lang/Object", name := "getClass", desc := "()Ljava/lang/Class;" } : Jvm.MethodName)) ∈ lw_all := lw_g (lw_at lw_m3 81 rfl) rfl
theorem q955 : (Jvm.Cond.instanceMethod ({ cls := "ElephantEdge$Rule", name := "read", desc := "()V" } : Jvm.MethodName)) ∈ lw_all := lw_g (lw_at lw_m4 125 rfl) rfl
theorem q956 : (Jvm.Cond.selects "ElephantEdge$Rule" ({ cls := "ElephantEdge$Rule", name := "read", desc := "()V" } : Jvm.MethodName) ({ cls := "ElephantEdge$Rule", name := "read", desc := "()V" } : Jvm.MethodName)) ∈ lw_all := lw_g (lw_at lw_m4 126 rfl) rfl
theorem q957 : (Jvm.Cond.code ({ cls := "ElephantEdge$Rule", name := "read", desc := "()V" } : Jvm.MethodName) prog_14_method_3_code (1 : Nat) (Option.none : Option Jvm.ClassFile.FieldType)) ∈ lw_all := lw_g (lw_at lw_m4 127 rfl) rfl
theorem q958 : (Jvm.Cond.methodLink "ElephantEdge$Rule" (63 : Nat) ({ cls := "ElephantEdge$Rule", name := "now", desc := "()I" } : Jvm.MethodName)) ∈ lw_all := lw_g (lw_at lw_m4 128 rfl) rfl
theorem q959 : (Jvm.Cond.privateMethod ({ cls := "ElephantEdge$Rule", name := "now", desc := "()I" } : Jvm.MethodName)) ∈ lw_tbl := lw_at lw_m4 129 rfl
theorem q960 : (Jvm.Cond.instanceMethod ({ cls := "ElephantEdge$Rule", name := "now", desc := "()I" } : Jvm.MethodName)) ∈ lw_all := lw_g (lw_at lw_m4 130 rfl) rfl
theorem q961 : (Jvm.Cond.code ({ cls := "ElephantEdge$Rule", name := "now", desc := "()I" } : Jvm.MethodName) prog_14_method_13_code (1 : Nat) (Option.some Jvm.ClassFile.FieldType.int)) ∈ lw_all := lw_g (lw_at lw_m4 131 rfl) rfl
theorem q962 : (Jvm.Cond.methodLink "ElephantEdge$Rule" (70 : Nat) ({ cls := "ElephantEdge$Rule", name := "right", desc := "(Z)V" } : Jvm.MethodName)) ∈ lw_all := lw_g (lw_at lw_m4 132 rfl) rfl
theorem q963 : (Jvm.Cond.privateMethod ({ cls := "ElephantEdge$Rule", name := "right", desc := "(Z)V" } : Jvm.MethodName)) ∈ lw_tbl := lw_at lw_m4 133 rfl
theorem q964 : (Jvm.Cond.instanceMethod ({ cls := "ElephantEdge$Rule", name := "right", desc := "(Z)V" } : Jvm.MethodName)) ∈ lw_all := lw_g (lw_at lw_m4 134 rfl) rfl
theorem q965 : (Jvm.Cond.code ({ cls := "ElephantEdge$Rule", name := "right", desc := "(Z)V" } : Jvm.MethodName) prog_14_method_11_code (2 : Nat) (Option.none : Option Jvm.ClassFile.FieldType)) ∈ lw_all := lw_g (lw_at lw_m4 135 rfl) rfl
theorem q966 : (Jvm.Cond.classLink "ElephantEdge$Rule" (152 : Nat) "ElephantEdge$Wrong") ∈ lw_all := lw_g (lw_at lw_m4 136 rfl) rfl
theorem q975 : (Jvm.Cond.methodLinkNest "ElephantEdge$Rule" (154 : Nat) ({ cls := "ElephantEdge$Wrong", name := "<init>", desc := "()V" } : Jvm.MethodName) "ElephantEdge") ∈ lw_tbl := lw_at lw_m4 145 rfl
theorem q981 : (Jvm.Cond.methodLink "ElephantEdge$Rule" (74 : Nat) ({ cls := "ElephantEdge$Rule", name := "clause", desc := "()V" } : Jvm.MethodName)) ∈ lw_all := lw_g (lw_at lw_m4 151 rfl) rfl
theorem q982 : (Jvm.Cond.privateMethod ({ cls := "ElephantEdge$Rule", name := "clause", desc := "()V" } : Jvm.MethodName)) ∈ lw_tbl := lw_at lw_m4 152 rfl
theorem q983 : (Jvm.Cond.instanceMethod ({ cls := "ElephantEdge$Rule", name := "clause", desc := "()V" } : Jvm.MethodName)) ∈ lw_all := lw_g (lw_at lw_m4 153 rfl) rfl
theorem q984 : (Jvm.Cond.code ({ cls := "ElephantEdge$Rule", name := "clause", desc := "()V" } : Jvm.MethodName) prog_14_method_4_code (1 : Nat) (Option.none : Option Jvm.ClassFile.FieldType)) ∈ lw_all := lw_g (lw_at lw_m4 154 rfl) rfl
theorem q985 : (Jvm.Cond.stringRef "ElephantEdge$Rule" (80 : Nat) "like") ∈ lw_tbl := lw_at lw_m4 155 rfl
theorem q986 : (Jvm.Cond.methodLink "ElephantEdge$Rule" (82 : Nat) ({ cls := "ElephantEdge$Rule", name := "eats", desc := "(Ljava/lang/String;)Z" } : Jvm.MethodName)) ∈ lw_all := lw_g (lw_at lw_m4 156 rfl) rfl
theorem q987 : (Jvm.Cond.privateMethod ({ cls := "ElephantEdge$Rule", name := "eats", desc := "(Ljava/lang/String;)Z" } : Jvm.MethodName)) ∈ lw_tbl := lw_at lw_m4 157 rfl
theorem q988 : (Jvm.Cond.instanceMethod ({ cls := "ElephantEdge$Rule", name := "eats", desc := "(Ljava/lang/String;)Z" } : Jvm.MethodName)) ∈ lw_all := lw_g (lw_at lw_m4 158 rfl) rfl
theorem q989 : (Jvm.Cond.code ({ cls := "ElephantEdge$Rule", name := "eats", desc := "(Ljava/lang/String;)Z" } : Jvm.MethodName) prog_14_method_15_code (4 : Nat) (Option.some Jvm.ClassFile.FieldType.boolean)) ∈ lw_all := lw_g (lw_at lw_m4 159 rfl) rfl
theorem q990 : (Jvm.Cond.methodLink "ElephantEdge$Rule" (155 : Nat) ({ cls := "java/lang/String", name := "length", desc := "()I" } : Jvm.MethodName)) ∈ lw_all := lw_g (lw_at lw_m4 160 rfl) rfl
theorem q1000 : (Jvm.Cond.methodLink "ElephantEdge$Rule" (160 : Nat) ({ cls := "ElephantEdge$Rule", name := "isSmall", desc := "(I)Z" } : Jvm.MethodName)) ∈ lw_all := lw_g (lw_at lw_m4 170 rfl) rfl
theorem q1001 : (Jvm.Cond.privateMethod ({ cls := "ElephantEdge$Rule", name := "isSmall", desc := "(I)Z" } : Jvm.MethodName)) ∈ lw_tbl := lw_at lw_m4 171 rfl
theorem q1002 : (Jvm.Cond.instanceMethod ({ cls := "ElephantEdge$Rule", name := "isSmall", desc := "(I)Z" } : Jvm.MethodName)) ∈ lw_all := lw_g (lw_at lw_m4 172 rfl) rfl
theorem q1003 : (Jvm.Cond.code ({ cls := "ElephantEdge$Rule", name := "isSmall", desc := "(I)Z" } : Jvm.MethodName) prog_14_method_14_code (2 : Nat) (Option.some Jvm.ClassFile.FieldType.boolean)) ∈ lw_all := lw_g (lw_at lw_m4 173 rfl) rfl
theorem q1004 : (Jvm.Cond.methodLink "ElephantEdge$Rule" (163 : Nat) ({ cls := "java/lang/String", name := "charAt", desc := "(I)C" } : Jvm.MethodName)) ∈ lw_all := lw_g (lw_at lw_m4 174 rfl) rfl
theorem q1040 : (Jvm.Cond.methodLink "ElephantEdge$Rule" (86 : Nat) ({ cls := "ElephantEdge$Rule", name := "likes", desc := "()V" } : Jvm.MethodName)) ∈ lw_all := lw_g (lw_at lw_m4 210 rfl) rfl
theorem q1041 : (Jvm.Cond.privateMethod ({ cls := "ElephantEdge$Rule", name := "likes", desc := "()V" } : Jvm.MethodName)) ∈ lw_tbl := lw_at lw_m4 211 rfl
theorem q1042 : (Jvm.Cond.instanceMethod ({ cls := "ElephantEdge$Rule", name := "likes", desc := "()V" } : Jvm.MethodName)) ∈ lw_all := lw_g (lw_at lw_m4 212 rfl) rfl
theorem q1043 : (Jvm.Cond.code ({ cls := "ElephantEdge$Rule", name := "likes", desc := "()V" } : Jvm.MethodName) prog_14_method_5_code (2 : Nat) (Option.none : Option Jvm.ClassFile.FieldType)) ∈ lw_all := lw_g (lw_at lw_m4 213 rfl) rfl
theorem q1044 : (Jvm.Cond.methodLinkNest "ElephantEdge$Rule" (100 : Nat) ({ cls := "ElephantEdge", name := "cropName", desc := "(I)Ljava/lang/String;" } : Jvm.MethodName) "ElephantEdge") ∈ lw_tbl := lw_at lw_m4 214 rfl
theorem q1051 : (Jvm.Cond.methodLink "ElephantEdge$Rule" (89 : Nat) ({ cls := "ElephantEdge$Rule", name := "number", desc := "(II)I" } : Jvm.MethodName)) ∈ lw_all := lw_g (lw_at lw_m4 221 rfl) rfl
theorem q1052 : (Jvm.Cond.privateMethod ({ cls := "ElephantEdge$Rule", name := "number", desc := "(II)I" } : Jvm.MethodName)) ∈ lw_tbl := lw_at lw_m4 222 rfl
theorem q1053 : (Jvm.Cond.instanceMethod ({ cls := "ElephantEdge$Rule", name := "number", desc := "(II)I" } : Jvm.MethodName)) ∈ lw_all := lw_g (lw_at lw_m4 223 rfl) rfl
theorem q1054 : (Jvm.Cond.code ({ cls := "ElephantEdge$Rule", name := "number", desc := "(II)I" } : Jvm.MethodName) prog_14_method_10_code (6 : Nat) (Option.some Jvm.ClassFile.FieldType.int)) ∈ lw_all := lw_g (lw_at lw_m4 224 rfl) rfl
theorem q1055 : (Jvm.Cond.methodLinkNest "ElephantEdge$Rule" (104 : Nat) ({ cls := "ElephantEdge", name := "isDigit", desc := "(I)Z" } : Jvm.MethodName) "ElephantEdge") ∈ lw_tbl := lw_at lw_m4 225 rfl
theorem q1058 : (Jvm.Cond.stringRef "ElephantEdge$Rule" (88 : Nat) "step") ∈ lw_tbl := lw_at lw_m4 228 rfl
theorem q1059 : (Jvm.Cond.stringRef "ElephantEdge$Rule" (92 : Nat) "scare") ∈ lw_tbl := lw_at lw_m4 229 rfl
theorem q1060 : (Jvm.Cond.stringRef "ElephantEdge$Rule" (93 : Nat) "wear") ∈ lw_tbl := lw_at lw_m4 230 rfl
theorem q1061 : (Jvm.Cond.stringRef "ElephantEdge$Rule" (94 : Nat) "cap") ∈ lw_tbl := lw_at lw_m4 231 rfl
theorem q1062 : (Jvm.Cond.stringRef "ElephantEdge$Rule" (95 : Nat) "pay") ∈ lw_tbl := lw_at lw_m4 232 rfl
theorem q1063 : (Jvm.Cond.methodLink "ElephantEdge$Rule" (96 : Nat) ({ cls := "ElephantEdge$Rule", name := "sum", desc := "()LElephantEdge$Formula;" } : Jvm.MethodName)) ∈ lw_all := lw_g (lw_at lw_m4 233 rfl) rfl
theorem q1064 : (Jvm.Cond.privateMethod ({ cls := "ElephantEdge$Rule", name := "sum", desc := "()LElephantEdge$Formula;" } : Jvm.MethodName)) ∈ lw_tbl := lw_at lw_m4 234 rfl
theorem q1065 : (Jvm.Cond.instanceMethod ({ cls := "ElephantEdge$Rule", name := "sum", desc := "()LElephantEdge$Formula;" } : Jvm.MethodName)) ∈ lw_all := lw_g (lw_at lw_m4 235 rfl) rfl
theorem q1066 : (Jvm.Cond.code ({ cls := "ElephantEdge$Rule", name := "sum", desc := "()LElephantEdge$Formula;" } : Jvm.MethodName) prog_14_method_6_code (3 : Nat) (Option.some (Jvm.ClassFile.FieldType.object "ElephantEdge$Formula"))) ∈ lw_all := lw_g (lw_at lw_m4 236 rfl) rfl
theorem q1067 : (Jvm.Cond.methodLink "ElephantEdge$Rule" (108 : Nat) ({ cls := "ElephantEdge$Rule", name := "product", desc := "()LElephantEdge$Formula;" } : Jvm.MethodName)) ∈ lw_all := lw_g (lw_at lw_m4 237 rfl) rfl
theorem q1068 : (Jvm.Cond.privateMethod ({ cls := "ElephantEdge$Rule", name := "product", desc := "()LElephantEdge$Formula;" } : Jvm.MethodName)) ∈ lw_tbl := lw_at lw_m4 238 rfl
theorem q1069 : (Jvm.Cond.instanceMethod ({ cls := "ElephantEdge$Rule", name := "product", desc := "()LElephantEdge$Formula;" } : Jvm.MethodName)) ∈ lw_all := lw_g (lw_at lw_m4 239 rfl) rfl
theorem q1070 : (Jvm.Cond.code ({ cls := "ElephantEdge$Rule", name := "product", desc := "()LElephantEdge$Formula;" } : Jvm.MethodName) prog_14_method_7_code (3 : Nat) (Option.some (Jvm.ClassFile.FieldType.object "ElephantEdge$Formula"))) ∈ lw_all := lw_g (lw_at lw_m5 0 rfl) rfl
theorem q1071 : (Jvm.Cond.methodLink "ElephantEdge$Rule" (114 : Nat) ({ cls := "ElephantEdge$Rule", name := "one", desc := "()LElephantEdge$Formula;" } : Jvm.MethodName)) ∈ lw_all := lw_g (lw_at lw_m5 1 rfl) rfl
theorem q1072 : (Jvm.Cond.privateMethod ({ cls := "ElephantEdge$Rule", name := "one", desc := "()LElephantEdge$Formula;" } : Jvm.MethodName)) ∈ lw_tbl := lw_at lw_m5 2 rfl
theorem q1073 : (Jvm.Cond.instanceMethod ({ cls := "ElephantEdge$Rule", name := "one", desc := "()LElephantEdge$Formula;" } : Jvm.MethodName)) ∈ lw_all := lw_g (lw_at lw_m5 3 rfl) rfl
theorem q1074 : (Jvm.Cond.code ({ cls := "ElephantEdge$Rule", name := "one", desc := "()LElephantEdge$Formula;" } : Jvm.MethodName) prog_14_method_8_code (5 : Nat) (Option.some (Jvm.ClassFile.FieldType.object "ElephantEdge$Formula"))) ∈ lw_all := lw_g (lw_at lw_m5 4 rfl) rfl
theorem q1075 : (Jvm.Cond.methodLinkNest "ElephantEdge$Rule" (117 : Nat) ({ cls := "ElephantEdge", name := "toldName", desc := "(I)Ljava/lang/String;" } : Jvm.MethodName) "ElephantEdge") ∈ lw_tbl := lw_at lw_m5 5 rfl
theorem q1083 : (Jvm.Cond.stringRef "ElephantEdge$Rule" (120 : Nat) "least") ∈ lw_tbl := lw_at lw_m5 13 rfl
theorem q1084 : (Jvm.Cond.stringRef "ElephantEdge$Rule" (122 : Nat) "most") ∈ lw_tbl := lw_at lw_m5 14 rfl
theorem q1085 : (Jvm.Cond.stringRef "ElephantEdge$Rule" (124 : Nat) "if") ∈ lw_tbl := lw_at lw_m5 15 rfl
theorem q1086 : (Jvm.Cond.methodLink "ElephantEdge$Rule" (129 : Nat) ({ cls := "ElephantEdge$Rule", name := "choice", desc := "()LElephantEdge$Formula;" } : Jvm.MethodName)) ∈ lw_all := lw_g (lw_at lw_m5 16 rfl) rfl
theorem q1087 : (Jvm.Cond.privateMethod ({ cls := "ElephantEdge$Rule", name := "choice", desc := "()LElephantEdge$Formula;" } : Jvm.MethodName)) ∈ lw_tbl := lw_at lw_m5 17 rfl
theorem q1088 : (Jvm.Cond.instanceMethod ({ cls := "ElephantEdge$Rule", name := "choice", desc := "()LElephantEdge$Formula;" } : Jvm.MethodName)) ∈ lw_all := lw_g (lw_at lw_m5 18 rfl) rfl
theorem q1089 : (Jvm.Cond.code ({ cls := "ElephantEdge$Rule", name := "choice", desc := "()LElephantEdge$Formula;" } : Jvm.MethodName) prog_14_method_9_code (5 : Nat) (Option.some (Jvm.ClassFile.FieldType.object "ElephantEdge$Formula"))) ∈ lw_all := lw_g (lw_at lw_m5 19 rfl) rfl
theorem q1090 : (Jvm.Cond.classLink "ElephantEdge$Rule" (140 : Nat) "ElephantEdge$Held") ∈ lw_all := lw_g (lw_at lw_m5 20 rfl) rfl
theorem q1092 : (Jvm.Cond.methodLink "ElephantEdge$Rule" (142 : Nat) ({ cls := "ElephantEdge$Held", name := "<init>", desc := "(ILElephantEdge$Formula;LElephantEdge$Formula;)V" } : Jvm.MethodName)) ∈ lw_all := lw_g (lw_at lw_m5 22 rfl) rfl
theorem q1102 : (Jvm.Cond.methodLink "ElephantEdge$Rule" (77 : Nat) ({ cls := "ElephantEdge$Rule", name := "sign", desc := "(I)V" } : Jvm.MethodName)) ∈ lw_all := lw_g (lw_at lw_m5 32 rfl) rfl
theorem q1103 : (Jvm.Cond.privateMethod ({ cls := "ElephantEdge$Rule", name := "sign", desc := "(I)V" } : Jvm.MethodName)) ∈ lw_tbl := lw_at lw_m5 33 rfl
theorem q1104 : (Jvm.Cond.instanceMethod ({ cls := "ElephantEdge$Rule", name := "sign", desc := "(I)V" } : Jvm.MethodName)) ∈ lw_all := lw_g (lw_at lw_m5 34 rfl) rfl
theorem q1105 : (Jvm.Cond.code ({ cls := "ElephantEdge$Rule", name := "sign", desc := "(I)V" } : Jvm.MethodName) prog_14_method_12_code (2 : Nat) (Option.none : Option Jvm.ClassFile.FieldType)) ∈ lw_all := lw_g (lw_at lw_m5 35 rfl) rfl
theorem q1106 : (Jvm.Cond.classLink "ElephantEdge$Rule" (143 : Nat) "ElephantEdge$If") ∈ lw_all := lw_g (lw_at lw_m5 36 rfl) rfl
theorem q1108 : (Jvm.Cond.methodLink "ElephantEdge$Rule" (145 : Nat) ({ cls := "ElephantEdge$If", name := "<init>", desc := "(LElephantEdge$Formula;LElephantEdge$Formula;LElephantEdge$Formula;)V" } : Jvm.MethodName)) ∈ lw_all := lw_g (lw_at lw_m5 38 rfl) rfl
theorem q1122 : (Jvm.Cond.classLink "ElephantEdge$Rule" (132 : Nat) "ElephantEdge$Least") ∈ lw_all := lw_g (lw_at lw_m5 52 rfl) rfl
theorem q1124 : (Jvm.Cond.methodLink "ElephantEdge$Rule" (134 : Nat) ({ cls := "ElephantEdge$Least", name := "<init>", desc := "(LElephantEdge$Formula;LElephantEdge$Formula;)V" } : Jvm.MethodName)) ∈ lw_all := lw_g (lw_at lw_m5 54 rfl) rfl
theorem q1131 : (Jvm.Cond.classLink "ElephantEdge$Rule" (137 : Nat) "ElephantEdge$Most") ∈ lw_all := lw_g (lw_at lw_m5 61 rfl) rfl
theorem q1133 : (Jvm.Cond.methodLink "ElephantEdge$Rule" (139 : Nat) ({ cls := "ElephantEdge$Most", name := "<init>", desc := "(LElephantEdge$Formula;LElephantEdge$Formula;)V" } : Jvm.MethodName)) ∈ lw_all := lw_g (lw_at lw_m5 63 rfl) rfl
theorem q2517 : (Jvm.Cond.castable "ElephantEdge$Rule" "java/lang/Object") ∈ lw_tbl := lw_at lw_m11 7 rfl
theorem in_X5 : ∀ w ∈ wsX50, w ∈ lw_all := lw_in wsX50 [333, 335, 337, 339, 341, 343, 345, 347, 349, 351, 353, 355] (by decide +kernel) (by decide +kernel)
/-! ElephantEdge$Two -/
def RX6 : String := "ElephantEdge$Two"
abbrev cX6_init : ByteArray := prog_18_method_1_code
def yX6_init : MethodName := ⟨RX6, "<init>", "(LElephantEdge$Formula;LElephantEdge$Formula;)V"⟩
abbrev cX6_value : ByteArray := prog_18_method_2_code
def yX6_value : MethodName := ⟨RX6, "value", "([I)I"⟩
theorem q119 : (Jvm.Cond.initialized "ElephantEdge$Two") ∈ lw_all := lw_g (lw_at lw_m1 9 rfl) rfl
theorem q301 : (Jvm.Cond.instanceMethod ({ cls := "ElephantEdge$Two", name := "<init>", desc := "(LElephantEdge$Formula;LElephantEdge$Formula;)V" } : Jvm.MethodName)) ∈ lw_all := lw_g (lw_at lw_m1 191 rfl) rfl
theorem q302 : (Jvm.Cond.code ({ cls := "ElephantEdge$Two", name := "<init>", desc := "(LElephantEdge$Formula;LElephantEdge$Formula;)V" } : Jvm.MethodName) prog_18_method_1_code (3 : Nat) (Option.none : Option Jvm.ClassFile.FieldType)) ∈ lw_all := lw_g (lw_at lw_m1 192 rfl) rfl
theorem q303 : (Jvm.Cond.methodLink "ElephantEdge$Two" (1 : Nat) ({ cls := "java/lang/Object", name := "<init>", desc := "()V" } : Jvm.MethodName)) ∈ lw_all := lw_g (lw_at lw_m1 193 rfl) rfl
theorem q305 : (Jvm.Cond.fieldLink "ElephantEdge$Two" (7 : Nat) "ElephantEdge$Two" "one" "LElephantEdge$Formula;") ∈ lw_all := lw_g (lw_at lw_m1 195 rfl) rfl
theorem q306 : (Jvm.Cond.fieldLink "ElephantEdge$Two" (13 : Nat) "ElephantEdge$Two" "other" "LElephantEdge$Formula;") ∈ lw_all := lw_g (lw_at lw_m1 196 rfl) rfl
theorem q310 : (Jvm.Cond.soleField "ElephantEdge$Two" "one") ∈ lw_all := lw_g (lw_at lw_m1 200 rfl) rfl
theorem q312 : (Jvm.Cond.soleField "ElephantEdge$Two" "other") ∈ lw_all := lw_g (lw_at lw_m1 202 rfl) rfl
theorem q1428 : (Jvm.Cond.instanceMethod ({ cls := "ElephantEdge$Two", name := "value", desc := "([I)I" } : Jvm.MethodName)) ∈ lw_all := lw_g (lw_at lw_m6 118 rfl) rfl
theorem q1429 : (Jvm.Cond.publicMethod ({ cls := "ElephantEdge$Two", name := "value", desc := "([I)I" } : Jvm.MethodName)) ∈ lw_tbl := lw_at lw_m6 119 rfl
theorem q1430 : (Jvm.Cond.code ({ cls := "ElephantEdge$Two", name := "value", desc := "([I)I" } : Jvm.MethodName) prog_18_method_2_code (3 : Nat) (Option.some Jvm.ClassFile.FieldType.int)) ∈ lw_all := lw_g (lw_at lw_m6 120 rfl) rfl
theorem q1431 : (Jvm.Cond.interfaceEntry "ElephantEdge$Two" (16 : Nat)) ∈ lw_tbl := lw_at lw_m6 121 rfl
theorem q1432 : (Jvm.Cond.methodLink "ElephantEdge$Two" (16 : Nat) ({ cls := "ElephantEdge$Formula", name := "value", desc := "([I)I" } : Jvm.MethodName)) ∈ lw_all := lw_g (lw_at lw_m6 122 rfl) rfl
theorem q1462 : (Jvm.Cond.methodLink "ElephantEdge$Two" (22 : Nat) ({ cls := "ElephantEdge$Two", name := "of", desc := "(II)I" } : Jvm.MethodName)) ∈ lw_all := lw_g (lw_at lw_m6 152 rfl) rfl
theorem q1463 : (Jvm.Cond.declares ({ cls := "ElephantEdge$Two", name := "of", desc := "(II)I" } : Jvm.MethodName)) ∈ lw_tbl := lw_at lw_m6 153 rfl
theorem q1464 : (Jvm.Cond.sameMethod "ElephantEdge$Two" "ElephantEdge$Two" "of" "(II)I") ∈ lw_all := lw_g (lw_at lw_m6 154 rfl) rfl
/-! ElephantEdge$Sum -/
def RX7 : String := "ElephantEdge$Sum"
def TX7 : u_T := fun k => match k with
  | 0 => ("ElephantEdge$Two", "one", "LElephantEdge$Formula;", true)
  | 1 => ("ElephantEdge$Two", "other", "LElephantEdge$Formula;", true)
  | _ => ("ElephantEdge$Sum", "sign", "I", true)
def tyX7 : Nat → FieldType := fun k => match k with
  | 0 => .object "ElephantEdge$Formula"
  | 1 => .object "ElephantEdge$Formula"
  | _ => .int
abbrev wsX70 : List Cond := u_ws RX7 TX7 3
theorem nmX7 : ∀ a, a < 3 → ∀ b, b < 3 → a ≠ b → (TX7 a).2.1 ≠ (TX7 b).2.1 := by decide +kernel
theorem tyX7_ok : ∀ k, k < 3 → parseFieldDescriptor (TX7 k).2.2.1 = some (tyX7 k) := by decide +kernel
abbrev cX7_init : ByteArray := prog_16_method_1_code
def yX7_init : MethodName := ⟨RX7, "<init>", "(ILElephantEdge$Formula;LElephantEdge$Formula;)V"⟩
abbrev cX7_of : ByteArray := prog_16_method_2_code
def yX7_of : MethodName := ⟨RX7, "of", "(II)I"⟩
theorem q120 : (Jvm.Cond.initialized "ElephantEdge$Sum") ∈ lw_all := lw_g (lw_at lw_m1 10 rfl) rfl
theorem q276 : (Jvm.Cond.instantiable "ElephantEdge$Sum" (3 : Nat)) ∈ lw_all := lw_g (lw_at lw_m1 166 rfl) rfl
theorem q298 : (Jvm.Cond.instanceMethod ({ cls := "ElephantEdge$Sum", name := "<init>", desc := "(ILElephantEdge$Formula;LElephantEdge$Formula;)V" } : Jvm.MethodName)) ∈ lw_all := lw_g (lw_at lw_m1 188 rfl) rfl
theorem q299 : (Jvm.Cond.code ({ cls := "ElephantEdge$Sum", name := "<init>", desc := "(ILElephantEdge$Formula;LElephantEdge$Formula;)V" } : Jvm.MethodName) prog_16_method_1_code (4 : Nat) (Option.none : Option Jvm.ClassFile.FieldType)) ∈ lw_all := lw_g (lw_at lw_m1 189 rfl) rfl
theorem q300 : (Jvm.Cond.methodLink "ElephantEdge$Sum" (1 : Nat) ({ cls := "ElephantEdge$Two", name := "<init>", desc := "(LElephantEdge$Formula;LElephantEdge$Formula;)V" } : Jvm.MethodName)) ∈ lw_all := lw_g (lw_at lw_m1 190 rfl) rfl
theorem q304 : (Jvm.Cond.fieldLink "ElephantEdge$Sum" (7 : Nat) "ElephantEdge$Sum" "sign" "I") ∈ lw_all := lw_g (lw_at lw_m1 194 rfl) rfl
theorem q307 : (Jvm.Cond.laysFinal "ElephantEdge$Sum" "ElephantEdge$Sum" "sign" "I") ∈ lw_all := lw_g (lw_at lw_m1 197 rfl) rfl
theorem q308 : (Jvm.Cond.soleField "ElephantEdge$Sum" "sign") ∈ lw_all := lw_g (lw_at lw_m1 198 rfl) rfl
theorem q309 : (Jvm.Cond.laysFinal "ElephantEdge$Sum" "ElephantEdge$Two" "one" "LElephantEdge$Formula;") ∈ lw_all := lw_g (lw_at lw_m1 199 rfl) rfl
theorem q311 : (Jvm.Cond.laysFinal "ElephantEdge$Sum" "ElephantEdge$Two" "other" "LElephantEdge$Formula;") ∈ lw_all := lw_g (lw_at lw_m1 201 rfl) rfl
theorem q313 : (Jvm.Cond.superclass "ElephantEdge$Sum" "ElephantEdge$Two") ∈ lw_all := lw_g (lw_at lw_m1 203 rfl) rfl
theorem q673 : (Jvm.Cond.selects "ElephantEdge$Sum" ({ cls := "java/lang/Object", name := "getClass", desc := "()Ljava/lang/Class;" } : Jvm.MethodName) ({ cls := "java/lang/Object", name := "getClass", desc := "()Ljava/lang/Class;" } : Jvm.MethodName)) ∈ lw_all := lw_g (lw_at lw_m3 83 rfl) rfl
theorem q1459 : (Jvm.Cond.castable "ElephantEdge$Sum" "ElephantEdge$Formula") ∈ lw_tbl := lw_at lw_m6 149 rfl
theorem q1460 : (Jvm.Cond.selects "ElephantEdge$Sum" ({ cls := "ElephantEdge$Formula", name := "value", desc := "([I)I" } : Jvm.MethodName) ({ cls := "ElephantEdge$Two", name := "value", desc := "([I)I" } : Jvm.MethodName)) ∈ lw_all := lw_g (lw_at lw_m6 150 rfl) rfl
theorem q1461 : (Jvm.Cond.unhidden "ElephantEdge$Sum" "value" "([I)I") ∈ lw_tbl := lw_at lw_m6 151 rfl
theorem q1476 : (Jvm.Cond.selects "ElephantEdge$Sum" ({ cls := "ElephantEdge$Two", name := "of", desc := "(II)I" } : Jvm.MethodName) ({ cls := "ElephantEdge$Sum", name := "of", desc := "(II)I" } : Jvm.MethodName)) ∈ lw_all := lw_g (lw_at lw_m6 166 rfl) rfl
theorem q1477 : (Jvm.Cond.instanceMethod ({ cls := "ElephantEdge$Sum", name := "of", desc := "(II)I" } : Jvm.MethodName)) ∈ lw_all := lw_g (lw_at lw_m6 167 rfl) rfl
theorem q1478 : (Jvm.Cond.code ({ cls := "ElephantEdge$Sum", name := "of", desc := "(II)I" } : Jvm.MethodName) prog_16_method_2_code (3 : Nat) (Option.some Jvm.ClassFile.FieldType.int)) ∈ lw_all := lw_g (lw_at lw_m6 168 rfl) rfl
theorem q2518 : (Jvm.Cond.castable "ElephantEdge$Sum" "java/lang/Object") ∈ lw_tbl := lw_at lw_m11 8 rfl
theorem in_X7 : ∀ w ∈ wsX70, w ∈ lw_all := lw_in wsX70 [309, 311, 307] (by decide +kernel) (by decide +kernel)
/-! ElephantEdge$Name -/
def RX8 : String := "ElephantEdge$Name"
def TX8 : u_T := fun k => match k with
  | _ => ("ElephantEdge$Name", "which", "I", true)
def tyX8 : Nat → FieldType := fun k => match k with
  | _ => .int
abbrev wsX80 : List Cond := u_ws RX8 TX8 1
theorem nmX8 : ∀ a, a < 1 → ∀ b, b < 1 → a ≠ b → (TX8 a).2.1 ≠ (TX8 b).2.1 := by decide +kernel
theorem tyX8_ok : ∀ k, k < 1 → parseFieldDescriptor (TX8 k).2.2.1 = some (tyX8 k) := by decide +kernel
abbrev cX8_init : ByteArray := prog_10_method_1_code
def yX8_init : MethodName := ⟨RX8, "<init>", "(I)V"⟩
abbrev cX8_value : ByteArray := prog_10_method_2_code
def yX8_value : MethodName := ⟨RX8, "value", "([I)I"⟩
theorem q121 : (Jvm.Cond.initialized "ElephantEdge$Name") ∈ lw_all := lw_g (lw_at lw_m1 11 rfl) rfl
theorem q278 : (Jvm.Cond.instantiable "ElephantEdge$Name" (1 : Nat)) ∈ lw_all := lw_g (lw_at lw_m1 168 rfl) rfl
theorem q280 : (Jvm.Cond.instanceMethod ({ cls := "ElephantEdge$Name", name := "<init>", desc := "(I)V" } : Jvm.MethodName)) ∈ lw_all := lw_g (lw_at lw_m1 170 rfl) rfl
theorem q281 : (Jvm.Cond.code ({ cls := "ElephantEdge$Name", name := "<init>", desc := "(I)V" } : Jvm.MethodName) prog_10_method_1_code (2 : Nat) (Option.none : Option Jvm.ClassFile.FieldType)) ∈ lw_all := lw_g (lw_at lw_m1 171 rfl) rfl
theorem q282 : (Jvm.Cond.methodLink "ElephantEdge$Name" (1 : Nat) ({ cls := "java/lang/Object", name := "<init>", desc := "()V" } : Jvm.MethodName)) ∈ lw_all := lw_g (lw_at lw_m1 172 rfl) rfl
theorem q283 : (Jvm.Cond.fieldLink "ElephantEdge$Name" (7 : Nat) "ElephantEdge$Name" "which" "I") ∈ lw_all := lw_g (lw_at lw_m1 173 rfl) rfl
theorem q284 : (Jvm.Cond.laysFinal "ElephantEdge$Name" "ElephantEdge$Name" "which" "I") ∈ lw_all := lw_g (lw_at lw_m1 174 rfl) rfl
theorem q285 : (Jvm.Cond.soleField "ElephantEdge$Name" "which") ∈ lw_all := lw_g (lw_at lw_m1 175 rfl) rfl
theorem q286 : (Jvm.Cond.superclass "ElephantEdge$Name" "java/lang/Object") ∈ lw_all := lw_g (lw_at lw_m1 176 rfl) rfl
theorem q667 : (Jvm.Cond.selects "ElephantEdge$Name" ({ cls := "java/lang/Object", name := "getClass", desc := "()Ljava/lang/Class;" } : Jvm.MethodName) ({ cls := "java/lang/Object", name := "getClass", desc := "()Ljava/lang/Class;" } : Jvm.MethodName)) ∈ lw_all := lw_g (lw_at lw_m3 77 rfl) rfl
theorem q1447 : (Jvm.Cond.castable "ElephantEdge$Name" "ElephantEdge$Formula") ∈ lw_tbl := lw_at lw_m6 137 rfl
theorem q1448 : (Jvm.Cond.selects "ElephantEdge$Name" ({ cls := "ElephantEdge$Formula", name := "value", desc := "([I)I" } : Jvm.MethodName) ({ cls := "ElephantEdge$Name", name := "value", desc := "([I)I" } : Jvm.MethodName)) ∈ lw_all := lw_g (lw_at lw_m6 138 rfl) rfl
theorem q1449 : (Jvm.Cond.unhidden "ElephantEdge$Name" "value" "([I)I") ∈ lw_tbl := lw_at lw_m6 139 rfl
theorem q1450 : (Jvm.Cond.instanceMethod ({ cls := "ElephantEdge$Name", name := "value", desc := "([I)I" } : Jvm.MethodName)) ∈ lw_all := lw_g (lw_at lw_m6 140 rfl) rfl
theorem q1451 : (Jvm.Cond.publicMethod ({ cls := "ElephantEdge$Name", name := "value", desc := "([I)I" } : Jvm.MethodName)) ∈ lw_tbl := lw_at lw_m6 141 rfl
theorem q1452 : (Jvm.Cond.code ({ cls := "ElephantEdge$Name", name := "value", desc := "([I)I" } : Jvm.MethodName) prog_10_method_2_code (2 : Nat) (Option.some Jvm.ClassFile.FieldType.int)) ∈ lw_all := lw_g (lw_at lw_m6 142 rfl) rfl
theorem q2519 : (Jvm.Cond.castable "ElephantEdge$Name" "java/lang/Object") ∈ lw_tbl := lw_at lw_m11 9 rfl
theorem in_X8 : ∀ w ∈ wsX80, w ∈ lw_all := lw_in wsX80 [284] (by decide +kernel) (by decide +kernel)
/-! ElephantEdge$Number -/
def RX9 : String := "ElephantEdge$Number"
def TX9 : u_T := fun k => match k with
  | _ => ("ElephantEdge$Number", "v", "I", true)
def tyX9 : Nat → FieldType := fun k => match k with
  | _ => .int
abbrev wsX90 : List Cond := u_ws RX9 TX9 1
theorem nmX9 : ∀ a, a < 1 → ∀ b, b < 1 → a ≠ b → (TX9 a).2.1 ≠ (TX9 b).2.1 := by decide +kernel
theorem tyX9_ok : ∀ k, k < 1 → parseFieldDescriptor (TX9 k).2.2.1 = some (tyX9 k) := by decide +kernel
abbrev cX9_init : ByteArray := prog_11_method_1_code
def yX9_init : MethodName := ⟨RX9, "<init>", "(I)V"⟩
abbrev cX9_value : ByteArray := prog_11_method_2_code
def yX9_value : MethodName := ⟨RX9, "value", "([I)I"⟩
theorem q122 : (Jvm.Cond.initialized "ElephantEdge$Number") ∈ lw_all := lw_g (lw_at lw_m1 12 rfl) rfl
theorem q288 : (Jvm.Cond.instantiable "ElephantEdge$Number" (1 : Nat)) ∈ lw_all := lw_g (lw_at lw_m1 178 rfl) rfl
theorem q290 : (Jvm.Cond.instanceMethod ({ cls := "ElephantEdge$Number", name := "<init>", desc := "(I)V" } : Jvm.MethodName)) ∈ lw_all := lw_g (lw_at lw_m1 180 rfl) rfl
theorem q291 : (Jvm.Cond.code ({ cls := "ElephantEdge$Number", name := "<init>", desc := "(I)V" } : Jvm.MethodName) prog_11_method_1_code (2 : Nat) (Option.none : Option Jvm.ClassFile.FieldType)) ∈ lw_all := lw_g (lw_at lw_m1 181 rfl) rfl
theorem q292 : (Jvm.Cond.methodLink "ElephantEdge$Number" (1 : Nat) ({ cls := "java/lang/Object", name := "<init>", desc := "()V" } : Jvm.MethodName)) ∈ lw_all := lw_g (lw_at lw_m1 182 rfl) rfl
theorem q293 : (Jvm.Cond.fieldLink "ElephantEdge$Number" (7 : Nat) "ElephantEdge$Number" "v" "I") ∈ lw_all := lw_g (lw_at lw_m1 183 rfl) rfl
theorem q294 : (Jvm.Cond.laysFinal "ElephantEdge$Number" "ElephantEdge$Number" "v" "I") ∈ lw_all := lw_g (lw_at lw_m1 184 rfl) rfl
theorem q295 : (Jvm.Cond.soleField "ElephantEdge$Number" "v") ∈ lw_all := lw_g (lw_at lw_m1 185 rfl) rfl
theorem q296 : (Jvm.Cond.superclass "ElephantEdge$Number" "java/lang/Object") ∈ lw_all := lw_g (lw_at lw_m1 186 rfl) rfl
theorem q668 : (Jvm.Cond.selects "ElephantEdge$Number" ({ cls := "java/lang/Object", name := "getClass", desc := "()Ljava/lang/Class;" } : Jvm.MethodName) ({ cls := "java/lang/Object", name := "getClass", desc := "()Ljava/lang/Class;" } : Jvm.MethodName)) ∈ lw_all := lw_g (lw_at lw_m3 78 rfl) rfl
theorem q1453 : (Jvm.Cond.castable "ElephantEdge$Number" "ElephantEdge$Formula") ∈ lw_tbl := lw_at lw_m6 143 rfl
theorem q1454 : (Jvm.Cond.selects "ElephantEdge$Number" ({ cls := "ElephantEdge$Formula", name := "value", desc := "([I)I" } : Jvm.MethodName) ({ cls := "ElephantEdge$Number", name := "value", desc := "([I)I" } : Jvm.MethodName)) ∈ lw_all := lw_g (lw_at lw_m6 144 rfl) rfl
theorem q1455 : (Jvm.Cond.unhidden "ElephantEdge$Number" "value" "([I)I") ∈ lw_tbl := lw_at lw_m6 145 rfl
theorem q1456 : (Jvm.Cond.instanceMethod ({ cls := "ElephantEdge$Number", name := "value", desc := "([I)I" } : Jvm.MethodName)) ∈ lw_all := lw_g (lw_at lw_m6 146 rfl) rfl
theorem q1457 : (Jvm.Cond.publicMethod ({ cls := "ElephantEdge$Number", name := "value", desc := "([I)I" } : Jvm.MethodName)) ∈ lw_tbl := lw_at lw_m6 147 rfl
theorem q1458 : (Jvm.Cond.code ({ cls := "ElephantEdge$Number", name := "value", desc := "([I)I" } : Jvm.MethodName) prog_11_method_2_code (2 : Nat) (Option.some Jvm.ClassFile.FieldType.int)) ∈ lw_all := lw_g (lw_at lw_m6 148 rfl) rfl
theorem q2520 : (Jvm.Cond.castable "ElephantEdge$Number" "java/lang/Object") ∈ lw_tbl := lw_at lw_m11 10 rfl
theorem in_X9 : ∀ w ∈ wsX90, w ∈ lw_all := lw_in wsX90 [294] (by decide +kernel) (by decide +kernel)
/-! ElephantEdgeModel -/
def RX10 : String := "ElephantEdgeModel"
def TX10 : u_T := fun k => match k with
  | 0 => ("ElephantEdgeModel", "thrown", "I", false)
  | 1 => ("ElephantEdgeModel", "night", "I", false)
  | 2 => ("ElephantEdgeModel", "kind", "[I", true)
  | 3 => ("ElephantEdgeModel", "family", "[I", true)
  | 4 => ("ElephantEdgeModel", "crop", "[I", true)
  | 5 => ("ElephantEdgeModel", "stalks", "[I", true)
  | 6 => ("ElephantEdgeModel", "fear", "[I", true)
  | 7 => ("ElephantEdgeModel", "fence", "[I", true)
  | 8 => ("ElephantEdgeModel", "builder", "[I", true)
  | 9 => ("ElephantEdgeModel", "village", "[I", true)
  | 10 => ("ElephantEdgeModel", "taped", "I", false)
  | 11 => ("ElephantEdgeModel", "size", "I", false)
  | 12 => ("ElephantEdgeModel", "at", "I", false)
  | 13 => ("ElephantEdgeModel", "bad", "I", false)
  | 14 => ("ElephantEdgeModel", "codes", "I", false)
  | 15 => ("ElephantEdgeModel", "opens", "I", false)
  | 16 => ("ElephantEdgeModel", "clauses", "I", false)
  | 17 => ("ElephantEdgeModel", "tape", "[I", true)
  | 18 => ("ElephantEdgeModel", "code", "[I", true)
  | 19 => ("ElephantEdgeModel", "codeNumber", "[I", true)
  | 20 => ("ElephantEdgeModel", "pay", "[I", true)
  | 21 => ("ElephantEdgeModel", "payNumber", "[I", true)
  | 22 => ("ElephantEdgeModel", "paySize", "I", false)
  | 23 => ("ElephantEdgeModel", "step", "I", false)
  | 24 => ("ElephantEdgeModel", "scare", "I", false)
  | 25 => ("ElephantEdgeModel", "wear", "I", false)
  | 26 => ("ElephantEdgeModel", "cap", "I", false)
  | 27 => ("ElephantEdgeModel", "like", "[I", true)
  | 28 => ("ElephantEdgeModel", "likeMany", "[I", true)
  | 29 => ("ElephantEdgeModel", "newClauses", "I", false)
  | 30 => ("ElephantEdgeModel", "newStep", "I", false)
  | 31 => ("ElephantEdgeModel", "newScare", "I", false)
  | 32 => ("ElephantEdgeModel", "newWear", "I", false)
  | 33 => ("ElephantEdgeModel", "newCap", "I", false)
  | 34 => ("ElephantEdgeModel", "newPaySize", "I", false)
  | 35 => ("ElephantEdgeModel", "newLike", "[I", true)
  | 36 => ("ElephantEdgeModel", "newLikeMany", "[I", true)
  | 37 => ("ElephantEdgeModel", "newPay", "[I", true)
  | 38 => ("ElephantEdgeModel", "newPayNumber", "[I", true)
  | 39 => ("ElephantEdgeModel", "herds", "I", false)
  | 40 => ("ElephantEdgeModel", "home", "[I", true)
  | 41 => ("ElephantEdgeModel", "hunger", "[I", true)
  | 42 => ("ElephantEdgeModel", "speed", "[I", true)
  | 43 => ("ElephantEdgeModel", "sStalks", "[I", true)
  | 44 => ("ElephantEdgeModel", "sFence", "[I", true)
  | 45 => ("ElephantEdgeModel", "sFear", "[I", true)
  | 46 => ("ElephantEdgeModel", "costs", "[I", true)
  | 47 => ("ElephantEdgeModel", "onward", "[I", true)
  | 48 => ("ElephantEdgeModel", "path", "[I", true)
  | 49 => ("ElephantEdgeModel", "pathMany", "I", false)
  | 50 => ("ElephantEdgeModel", "watches", "I", false)
  | 51 => ("ElephantEdgeModel", "extras", "I", false)
  | 52 => ("ElephantEdgeModel", "total", "I", false)
  | 53 => ("ElephantEdgeModel", "watchFamily", "[I", true)
  | 54 => ("ElephantEdgeModel", "watchCell", "[I", true)
  | 55 => ("ElephantEdgeModel", "extra", "[I", true)
  | 56 => ("ElephantEdgeModel", "lost", "[I", true)
  | 57 => ("ElephantEdgeModel", "twelveMany", "I", false)
  | 58 => ("ElephantEdgeModel", "builtCell", "I", false)
  | 59 => ("ElephantEdgeModel", "builtOther", "I", false)
  | 60 => ("ElephantEdgeModel", "builtLoss", "I", false)
  | 61 => ("ElephantEdgeModel", "twelve", "[I", true)
  | 62 => ("ElephantEdgeModel", "lastWatch", "I", false)
  | 63 => ("ElephantEdgeModel", "claims", "I", false)
  | 64 => ("ElephantEdgeModel", "found", "I", false)
  | 65 => ("ElephantEdgeModel", "debt", "[I", true)
  | 66 => ("ElephantEdgeModel", "watched", "[I", true)
  | 67 => ("ElephantEdgeModel", "claimFamily", "[I", true)
  | 68 => ("ElephantEdgeModel", "claimNight", "[I", true)
  | 69 => ("ElephantEdgeModel", "claimPaid", "[I", true)
  | 70 => ("ElephantEdgeModel", "postLoss", "I", false)
  | 71 => ("ElephantEdgeModel", "hasPosts", "Z", false)
  | 72 => ("ElephantEdgeModel", "bestPost", "[I", true)
  | 73 => ("ElephantEdgeModel", "joins", "I", false)
  | 74 => ("ElephantEdgeModel", "rotaMost", "I", false)
  | 75 => ("ElephantEdgeModel", "rotaSquares", "I", false)
  | 76 => ("ElephantEdgeModel", "hasRota", "Z", false)
  | 77 => ("ElephantEdgeModel", "isAway", "[Z", true)
  | 78 => ("ElephantEdgeModel", "load", "[I", true)
  | 79 => ("ElephantEdgeModel", "rotaSet", "[I", true)
  | 80 => ("ElephantEdgeModel", "bestRota", "[I", true)
  | 81 => ("ElephantEdgeModel", "rows", "I", false)
  | 82 => ("ElephantEdgeModel", "fund", "I", false)
  | 83 => ("ElephantEdgeModel", "rowClaim", "[I", true)
  | 84 => ("ElephantEdgeModel", "rowNight", "[I", true)
  | 85 => ("ElephantEdgeModel", "rowStalks", "[I", true)
  | 86 => ("ElephantEdgeModel", "stack", "[I", true)
  | 87 => ("ElephantEdgeModel", "fixMany", "[I", true)
  | 88 => ("ElephantEdgeModel", "fixHour", "[I", true)
  | 89 => ("ElephantEdgeModel", "fixCell", "[I", true)
  | 90 => ("ElephantEdgeModel", "steps", "[I", true)
  | 91 => ("ElephantEdgeModel", "stepsOn", "[I", true)
  | 92 => ("ElephantEdgeModel", "mayBeAt", "[Z", true)
  | 93 => ("ElephantEdgeModel", "wires", "I", false)
  | 94 => ("ElephantEdgeModel", "winds", "I", false)
  | 95 => ("ElephantEdgeModel", "trips", "I", false)
  | 96 => ("ElephantEdgeModel", "wireCell", "[I", true)
  | 97 => ("ElephantEdgeModel", "wireOther", "[I", true)
  | 98 => ("ElephantEdgeModel", "weak", "[I", true)
  | 99 => ("ElephantEdgeModel", "windHour", "[I", true)
  | 100 => ("ElephantEdgeModel", "windForce", "[I", true)
  | 101 => ("ElephantEdgeModel", "tripWire", "[I", true)
  | 102 => ("ElephantEdgeModel", "tripHour", "[I", true)
  | 103 => ("ElephantEdgeModel", "isBarred", "[Z", true)
  | 104 => ("ElephantEdgeModel", "isLeased", "[Z", true)
  | 105 => ("ElephantEdgeModel", "rent", "[I", true)
  | _ => ("ElephantEdgeModel", "rest", "[I", true)
def tyX10 : Nat → FieldType := fun k => match k with
  | 0 => .int
  | 1 => .int
  | 2 => .array .int
  | 3 => .array .int
  | 4 => .array .int
  | 5 => .array .int
  | 6 => .array .int
  | 7 => .array .int
  | 8 => .array .int
  | 9 => .array .int
  | 10 => .int
  | 11 => .int
  | 12 => .int
  | 13 => .int
  | 14 => .int
  | 15 => .int
  | 16 => .int
  | 17 => .array .int
  | 18 => .array .int
  | 19 => .array .int
  | 20 => .array .int
  | 21 => .array .int
  | 22 => .int
  | 23 => .int
  | 24 => .int
  | 25 => .int
  | 26 => .int
  | 27 => .array .int
  | 28 => .array .int
  | 29 => .int
  | 30 => .int
  | 31 => .int
  | 32 => .int
  | 33 => .int
  | 34 => .int
  | 35 => .array .int
  | 36 => .array .int
  | 37 => .array .int
  | 38 => .array .int
  | 39 => .int
  | 40 => .array .int
  | 41 => .array .int
  | 42 => .array .int
  | 43 => .array .int
  | 44 => .array .int
  | 45 => .array .int
  | 46 => .array .int
  | 47 => .array .int
  | 48 => .array .int
  | 49 => .int
  | 50 => .int
  | 51 => .int
  | 52 => .int
  | 53 => .array .int
  | 54 => .array .int
  | 55 => .array .int
  | 56 => .array .int
  | 57 => .int
  | 58 => .int
  | 59 => .int
  | 60 => .int
  | 61 => .array .int
  | 62 => .int
  | 63 => .int
  | 64 => .int
  | 65 => .array .int
  | 66 => .array .int
  | 67 => .array .int
  | 68 => .array .int
  | 69 => .array .int
  | 70 => .int
  | 71 => .boolean
  | 72 => .array .int
  | 73 => .int
  | 74 => .int
  | 75 => .int
  | 76 => .boolean
  | 77 => .array .boolean
  | 78 => .array .int
  | 79 => .array .int
  | 80 => .array .int
  | 81 => .int
  | 82 => .int
  | 83 => .array .int
  | 84 => .array .int
  | 85 => .array .int
  | 86 => .array .int
  | 87 => .array .int
  | 88 => .array .int
  | 89 => .array .int
  | 90 => .array .int
  | 91 => .array .int
  | 92 => .array .boolean
  | 93 => .int
  | 94 => .int
  | 95 => .int
  | 96 => .array .int
  | 97 => .array .int
  | 98 => .array .int
  | 99 => .array .int
  | 100 => .array .int
  | 101 => .array .int
  | 102 => .array .int
  | 103 => .array .boolean
  | 104 => .array .boolean
  | 105 => .array .int
  | _ => .array .int
abbrev wsX100 : List Cond := u_ws RX10 TX10 107
set_option maxRecDepth 100000 in
theorem nmX10 : ∀ a, a < 107 → ∀ b, b < 107 → a ≠ b → (TX10 a).2.1 ≠ (TX10 b).2.1 := by decide +kernel
set_option maxRecDepth 100000 in
theorem tyX10_ok : ∀ k, k < 107 → parseFieldDescriptor (TX10 k).2.2.1 = some (tyX10 k) := by decide +kernel
abbrev cX10_thrown : ByteArray := prog_23_method_1_code
def yX10_thrown : MethodName := ⟨RX10, "thrown", "()I"⟩
abbrev cX10_init : ByteArray := prog_23_method_4_code
def yX10_init : MethodName := ⟨RX10, "<init>", "()V"⟩
abbrev cX10_plain : ByteArray := prog_23_method_18_code
def yX10_plain : MethodName := ⟨RX10, "plain", "()V"⟩
abbrev cX10_begin : ByteArray := prog_23_method_19_code
def yX10_begin : MethodName := ⟨RX10, "begin", "()V"⟩
abbrev cX10_take : ByteArray := prog_23_method_20_code
def yX10_take : MethodName := ⟨RX10, "take", "()V"⟩
abbrev cX10_land : ByteArray := prog_23_method_9_code
def yX10_land : MethodName := ⟨RX10, "land", "(II)I"⟩
abbrev cX10_isCell : ByteArray := prog_23_method_5_code
def yX10_isCell : MethodName := ⟨RX10, "isCell", "(I)Z"⟩
abbrev cX10_within : ByteArray := prog_23_method_3_code
def yX10_within : MethodName := ⟨RX10, "within", "(III)Z"⟩
abbrev cX10_may : ByteArray := prog_23_method_2_code
def yX10_may : MethodName := ⟨RX10, "may", "(ZI)Z"⟩
abbrev cX10_isTaken : ByteArray := prog_23_method_10_code
def yX10_isTaken : MethodName := ⟨RX10, "isTaken", "(I)Z"⟩
abbrev cX10_field : ByteArray := prog_23_method_11_code
def yX10_field : MethodName := ⟨RX10, "field", "(IIII)I"⟩
abbrev cX10_stalks : ByteArray := prog_23_method_12_code
def yX10_stalks : MethodName := ⟨RX10, "stalks", "(I)I"⟩
abbrev cX10_village : ByteArray := prog_23_method_14_code
def yX10_village : MethodName := ⟨RX10, "village", "(II)I"⟩
abbrev cX10_fence : ByteArray := prog_23_method_15_code
def yX10_fence : MethodName := ⟨RX10, "fence", "(IIII)I"⟩
abbrev cX10_areNeighbours : ByteArray := prog_23_method_6_code
def yX10_areNeighbours : MethodName := ⟨RX10, "areNeighbours", "(II)Z"⟩
abbrev cX10_edge : ByteArray := prog_23_method_7_code
def yX10_edge : MethodName := ⟨RX10, "edge", "(II)I"⟩
abbrev cX10_fenced : ByteArray := prog_23_method_16_code
def yX10_fenced : MethodName := ⟨RX10, "fenced", "(II)I"⟩
abbrev cX10_fear : ByteArray := prog_23_method_17_code
def yX10_fear : MethodName := ⟨RX10, "fear", "(I)I"⟩
abbrev cX10_feed : ByteArray := prog_23_method_21_code
def yX10_feed : MethodName := ⟨RX10, "feed", "(IIIII)I"⟩
abbrev cX10_rule : ByteArray := prog_23_method_41_code
def yX10_rule : MethodName := ⟨RX10, "rule", "(I)I"⟩
abbrev cX10_fine : ByteArray := prog_23_method_22_code
def yX10_fine : MethodName := ⟨RX10, "fine", "()Z"⟩
abbrev cX10_isMore : ByteArray := prog_23_method_42_code
def yX10_isMore : MethodName := ⟨RX10, "isMore", "()Z"⟩
abbrev cX10_here : ByteArray := prog_23_method_24_code
def yX10_here : MethodName := ⟨RX10, "here", "()I"⟩
abbrev cX10_readClause : ByteArray := prog_23_method_40_code
def yX10_readClause : MethodName := ⟨RX10, "readClause", "()V"⟩
abbrev cX10_word : ByteArray := prog_23_method_27_code
def yX10_word : MethodName := ⟨RX10, "word", "()I"⟩
abbrev cX10_isSmall : ByteArray := prog_23_method_25_code
def yX10_isSmall : MethodName := ⟨RX10, "isSmall", "(I)Z"⟩
abbrev cX10_wrong : ByteArray := prog_23_method_23_code
def yX10_wrong : MethodName := ⟨RX10, "wrong", "(I)V"⟩
abbrev cX10_pass : ByteArray := prog_23_method_28_code
def yX10_pass : MethodName := ⟨RX10, "pass", "()V"⟩
abbrev cX10_readLike : ByteArray := prog_23_method_38_code
def yX10_readLike : MethodName := ⟨RX10, "readLike", "()V"⟩
abbrev cX10_digits : ByteArray := prog_23_method_29_code
def yX10_digits : MethodName := ⟨RX10, "digits", "(II)I"⟩
abbrev cX10_isDigit : ByteArray := prog_23_method_26_code
def yX10_isDigit : MethodName := ⟨RX10, "isDigit", "(I)Z"⟩
abbrev cX10_readPay : ByteArray := prog_23_method_39_code
def yX10_readPay : MethodName := ⟨RX10, "readPay", "()V"⟩
abbrev cX10_whole : ByteArray := prog_23_method_37_code
def yX10_whole : MethodName := ⟨RX10, "whole", "()V"⟩
abbrev cX10_part : ByteArray := prog_23_method_36_code
def yX10_part : MethodName := ⟨RX10, "part", "()V"⟩
abbrev cX10_unit : ByteArray := prog_23_method_34_code
def yX10_unit : MethodName := ⟨RX10, "unit", "()V"⟩
abbrev cX10_emit : ByteArray := prog_23_method_30_code
def yX10_emit : MethodName := ⟨RX10, "emit", "(II)V"⟩
abbrev cX10_opensOne : ByteArray := prog_23_method_32_code
def yX10_opensOne : MethodName := ⟨RX10, "opensOne", "()V"⟩
abbrev cX10_closesOne : ByteArray := prog_23_method_33_code
def yX10_closesOne : MethodName := ⟨RX10, "closesOne", "()V"⟩
abbrev cX10_need : ByteArray := prog_23_method_31_code
def yX10_need : MethodName := ⟨RX10, "need", "(I)V"⟩
abbrev cX10_branch : ByteArray := prog_23_method_35_code
def yX10_branch : MethodName := ⟨RX10, "branch", "()V"⟩
abbrev cX10_like : ByteArray := prog_23_method_44_code
def yX10_like : MethodName := ⟨RX10, "like", "(II)I"⟩
abbrev cX10_likeIn : ByteArray := prog_23_method_43_code
def yX10_likeIn : MethodName := ⟨RX10, "likeIn", "(II)I"⟩
abbrev cX10_herd : ByteArray := prog_23_method_45_code
def yX10_herd : MethodName := ⟨RX10, "herd", "(III)I"⟩
abbrev cX10_cost : ByteArray := prog_23_method_52_code
def yX10_cost : MethodName := ⟨RX10, "cost", "(II)I"⟩
abbrev cX10_isHerd : ByteArray := prog_23_method_51_code
def yX10_isHerd : MethodName := ⟨RX10, "isHerd", "(I)Z"⟩
abbrev cX10_setScene : ByteArray := prog_23_method_50_code
def yX10_setScene : MethodName := ⟨RX10, "setScene", "()V"⟩
abbrev cX10_findCosts : ByteArray := prog_23_method_47_code
def yX10_findCosts : MethodName := ⟨RX10, "findCosts", "(I)V"⟩
abbrev cX10_neighbour : ByteArray := prog_23_method_8_code
def yX10_neighbour : MethodName := ⟨RX10, "neighbour", "(II)I"⟩
abbrev cX10_stepCost : ByteArray := prog_23_method_46_code
def yX10_stepCost : MethodName := ⟨RX10, "stepCost", "(II)I"⟩
abbrev cX10_way : ByteArray := prog_23_method_53_code
def yX10_way : MethodName := ⟨RX10, "way", "(III)I"⟩
abbrev cX10_findPath : ByteArray := prog_23_method_48_code
def yX10_findPath : MethodName := ⟨RX10, "findPath", "(II)V"⟩
abbrev cX10_isOn : ByteArray := prog_23_method_49_code
def yX10_isOn : MethodName := ⟨RX10, "isOn", "(II)Z"⟩
abbrev cX10_foretold : ByteArray := prog_23_method_61_code
def yX10_foretold : MethodName := ⟨RX10, "foretold", "(II)I"⟩
abbrev cX10_isNights : ByteArray := prog_23_method_60_code
def yX10_isNights : MethodName := ⟨RX10, "isNights", "(I)Z"⟩
abbrev cX10_foretells : ByteArray := prog_23_method_59_code
def yX10_foretells : MethodName := ⟨RX10, "foretells", "(I)V"⟩
abbrev cX10_clearLost : ByteArray := prog_23_method_58_code
def yX10_clearLost : MethodName := ⟨RX10, "clearLost", "()V"⟩
abbrev cX10_passes : ByteArray := prog_23_method_57_code
def yX10_passes : MethodName := ⟨RX10, "passes", "(IZ)V"⟩
abbrev cX10_scares : ByteArray := prog_23_method_54_code
def yX10_scares : MethodName := ⟨RX10, "scares", "(I)V"⟩
abbrev cX10_targetOf : ByteArray := prog_23_method_56_code
def yX10_targetOf : MethodName := ⟨RX10, "targetOf", "(II)I"⟩
abbrev cX10_eats : ByteArray := prog_23_method_55_code
def yX10_eats : MethodName := ⟨RX10, "eats", "(II)V"⟩
abbrev cX10_pushed : ByteArray := prog_23_method_62_code
def yX10_pushed : MethodName := ⟨RX10, "pushed", "(III)I"⟩
abbrev cX10_isFamily : ByteArray := prog_23_method_13_code
def yX10_isFamily : MethodName := ⟨RX10, "isFamily", "(I)Z"⟩
abbrev cX10_build : ByteArray := prog_23_method_66_code
def yX10_build : MethodName := ⟨RX10, "build", "(II)I"⟩
abbrev cX10_findTwelve : ByteArray := prog_23_method_63_code
def yX10_findTwelve : MethodName := ⟨RX10, "findTwelve", "()V"⟩
abbrev cX10_tryFence : ByteArray := prog_23_method_65_code
def yX10_tryFence : MethodName := ⟨RX10, "tryFence", "(III)V"⟩
abbrev cX10_isOfTwelve : ByteArray := prog_23_method_64_code
def yX10_isOfTwelve : MethodName := ⟨RX10, "isOfTwelve", "(I)Z"⟩
abbrev cX10_night : ByteArray := prog_23_method_68_code
def yX10_night : MethodName := ⟨RX10, "night", "()I"⟩
abbrev cX10_without : ByteArray := prog_23_method_69_code
def yX10_without : MethodName := ⟨RX10, "without", "(I)I"⟩
abbrev cX10_lostOf : ByteArray := prog_23_method_67_code
def yX10_lostOf : MethodName := ⟨RX10, "lostOf", "(I)I"⟩
abbrev cX10_claims : ByteArray := prog_23_method_70_code
def yX10_claims : MethodName := ⟨RX10, "claims", "(II)V"⟩
abbrev cX10_rowAdds : ByteArray := prog_23_method_90_code
def yX10_rowAdds : MethodName := ⟨RX10, "rowAdds", "(II)V"⟩
abbrev cX10_debt : ByteArray := prog_23_method_71_code
def yX10_debt : MethodName := ⟨RX10, "debt", "(I)I"⟩
abbrev cX10_watch : ByteArray := prog_23_method_73_code
def yX10_watch : MethodName := ⟨RX10, "watch", "(II)I"⟩
abbrev cX10_toldNow : ByteArray := prog_23_method_72_code
def yX10_toldNow : MethodName := ⟨RX10, "toldNow", "()I"⟩
abbrev cX10_turn : ByteArray := prog_23_method_75_code
def yX10_turn : MethodName := ⟨RX10, "turn", "(I)I"⟩
abbrev cX10_isFree : ByteArray := prog_23_method_74_code
def yX10_isFree : MethodName := ⟨RX10, "isFree", "(I)Z"⟩
abbrev cX10_watched : ByteArray := prog_23_method_76_code
def yX10_watched : MethodName := ⟨RX10, "watched", "(I)I"⟩
abbrev cX10_post : ByteArray := prog_23_method_78_code
def yX10_post : MethodName := ⟨RX10, "post", "(II)I"⟩
abbrev cX10_tryPosts : ByteArray := prog_23_method_77_code
def yX10_tryPosts : MethodName := ⟨RX10, "tryPosts", "(III)V"⟩
abbrev cX10_join : ByteArray := prog_23_method_80_code
def yX10_join : MethodName := ⟨RX10, "join", "(IZ)I"⟩
abbrev cX10_bits : ByteArray := prog_23_method_79_code
def yX10_bits : MethodName := ⟨RX10, "bits", "(I)I"⟩
abbrev cX10_away : ByteArray := prog_23_method_81_code
def yX10_away : MethodName := ⟨RX10, "away", "(IIZ)Z"⟩
abbrev cX10_rota : ByteArray := prog_23_method_88_code
def yX10_rota : MethodName := ⟨RX10, "rota", "(IIII)I"⟩
abbrev cX10_findRota : ByteArray := prog_23_method_87_code
def yX10_findRota : MethodName := ⟨RX10, "findRota", "(II)V"⟩
abbrev cX10_tryRota : ByteArray := prog_23_method_86_code
def yX10_tryRota : MethodName := ⟨RX10, "tryRota", "(IIII)V"⟩
abbrev cX10_endsRota : ByteArray := prog_23_method_84_code
def yX10_endsRota : MethodName := ⟨RX10, "endsRota", "(I)V"⟩
abbrev cX10_isFirst : ByteArray := prog_23_method_85_code
def yX10_isFirst : MethodName := ⟨RX10, "isFirst", "(I)Z"⟩
abbrev cX10_isAhead : ByteArray := prog_23_method_82_code
def yX10_isAhead : MethodName := ⟨RX10, "isAhead", "(II)Z"⟩
abbrev cX10_freeIn : ByteArray := prog_23_method_83_code
def yX10_freeIn : MethodName := ⟨RX10, "freeIn", "(I)I"⟩
abbrev cX10_loads : ByteArray := prog_23_method_89_code
def yX10_loads : MethodName := ⟨RX10, "loads", "(II)I"⟩
abbrev cX10_find : ByteArray := prog_23_method_94_code
def yX10_find : MethodName := ⟨RX10, "find", "(II)I"⟩
abbrev cX10_isClaim : ByteArray := prog_23_method_93_code
def yX10_isClaim : MethodName := ⟨RX10, "isClaim", "(I)Z"⟩
abbrev cX10_rowsOf : ByteArray := prog_23_method_92_code
def yX10_rowsOf : MethodName := ⟨RX10, "rowsOf", "(I)I"⟩
abbrev cX10_harm : ByteArray := prog_23_method_95_code
def yX10_harm : MethodName := ⟨RX10, "harm", "(IIII)I"⟩
abbrev cX10_latest : ByteArray := prog_23_method_91_code
def yX10_latest : MethodName := ⟨RX10, "latest", "(II)I"⟩
abbrev cX10_fund : ByteArray := prog_23_method_96_code
def yX10_fund : MethodName := ⟨RX10, "fund", "(I)I"⟩
abbrev cX10_judge : ByteArray := prog_23_method_100_code
def yX10_judge : MethodName := ⟨RX10, "judge", "(IIII)I"⟩
abbrev cX10_middle : ByteArray := prog_23_method_97_code
def yX10_middle : MethodName := ⟨RX10, "middle", "(III)I"⟩
abbrev cX10_worked : ByteArray := prog_23_method_98_code
def yX10_worked : MethodName := ⟨RX10, "worked", "(IIII)I"⟩
abbrev cX10_two : ByteArray := prog_23_method_99_code
def yX10_two : MethodName := ⟨RX10, "two", "(III)I"⟩
abbrev cX10_claim : ByteArray := prog_23_method_101_code
def yX10_claim : MethodName := ⟨RX10, "claim", "(II)I"⟩
abbrev cX10_fix : ByteArray := prog_23_method_104_code
def yX10_fix : MethodName := ⟨RX10, "fix", "(III)I"⟩
abbrev cX10_isHour : ByteArray := prog_23_method_103_code
def yX10_isHour : MethodName := ⟨RX10, "isHour", "(I)Z"⟩
abbrev cX10_findSteps : ByteArray := prog_23_method_102_code
def yX10_findSteps : MethodName := ⟨RX10, "findSteps", "(I[I)V"⟩
abbrev cX10_mayBe : ByteArray := prog_23_method_106_code
def yX10_mayBe : MethodName := ⟨RX10, "mayBe", "(III)Z"⟩
abbrev cX10_findWhere : ByteArray := prog_23_method_105_code
def yX10_findWhere : MethodName := ⟨RX10, "findWhere", "(II)V"⟩
abbrev cX10_spots : ByteArray := prog_23_method_107_code
def yX10_spots : MethodName := ⟨RX10, "spots", "(II)I"⟩
abbrev cX10_wire : ByteArray := prog_23_method_108_code
def yX10_wire : MethodName := ⟨RX10, "wire", "(III)I"⟩
abbrev cX10_wind : ByteArray := prog_23_method_110_code
def yX10_wind : MethodName := ⟨RX10, "wind", "(II)I"⟩
abbrev cX10_windAt : ByteArray := prog_23_method_109_code
def yX10_windAt : MethodName := ⟨RX10, "windAt", "(I)I"⟩
abbrev cX10_trip : ByteArray := prog_23_method_111_code
def yX10_trip : MethodName := ⟨RX10, "trip", "(II)I"⟩
abbrev cX10_cause : ByteArray := prog_23_method_113_code
def yX10_cause : MethodName := ⟨RX10, "cause", "(I)I"⟩
abbrev cX10_causeOf : ByteArray := prog_23_method_112_code
def yX10_causeOf : MethodName := ⟨RX10, "causeOf", "(I)I"⟩
abbrev cX10_causes : ByteArray := prog_23_method_114_code
def yX10_causes : MethodName := ⟨RX10, "causes", "(II)I"⟩
abbrev cX10_called : ByteArray := prog_23_method_118_code
def yX10_called : MethodName := ⟨RX10, "called", "(II)I"⟩
abbrev cX10_nearest : ByteArray := prog_23_method_117_code
def yX10_nearest : MethodName := ⟨RX10, "nearest", "(II)I"⟩
abbrev cX10_apart : ByteArray := prog_23_method_116_code
def yX10_apart : MethodName := ⟨RX10, "apart", "(II)I"⟩
abbrev cX10_off : ByteArray := prog_23_method_115_code
def yX10_off : MethodName := ⟨RX10, "off", "(I)I"⟩
abbrev cX10_dusk : ByteArray := prog_23_method_119_code
def yX10_dusk : MethodName := ⟨RX10, "dusk", "(III)I"⟩
abbrev cX10_lease : ByteArray := prog_23_method_120_code
def yX10_lease : MethodName := ⟨RX10, "lease", "(IZ)Z"⟩
abbrev cX10_rent : ByteArray := prog_23_method_121_code
def yX10_rent : MethodName := ⟨RX10, "rent", "(II)I"⟩
abbrev cX10_rents : ByteArray := prog_23_method_124_code
def yX10_rents : MethodName := ⟨RX10, "rents", "(II)I"⟩
abbrev cX10_findRest : ByteArray := prog_23_method_123_code
def yX10_findRest : MethodName := ⟨RX10, "findRest", "(I)V"⟩
abbrev cX10_weight : ByteArray := prog_23_method_122_code
def yX10_weight : MethodName := ⟨RX10, "weight", "(I)I"⟩
abbrev cX10_gap : ByteArray := prog_23_method_125_code
def yX10_gap : MethodName := ⟨RX10, "gap", "(III)I"⟩
abbrev cX10_isNext : ByteArray := prog_23_method_126_code
def yX10_isNext : MethodName := ⟨RX10, "isNext", "(II)Z"⟩
abbrev cX10_count : ByteArray := prog_23_method_127_code
def yX10_count : MethodName := ⟨RX10, "count", "(I)I"⟩
theorem q123 : (Jvm.Cond.initialized "ElephantEdgeModel") ∈ lw_all := lw_g (lw_at lw_m1 13 rfl) rfl
theorem q678 : (Jvm.Cond.selects "ElephantEdgeModel" ({ cls := "java/lang/Object", name := "getClass", desc := "()Ljava/lang/Class;" } : Jvm.MethodName) ({ cls := "java/lang/Object", name := "getClass", desc := "()Ljava/lang/Class;" } : Jvm.MethodName)) ∈ lw_all := lw_g (lw_at lw_m3 88 rfl) rfl
theorem q1672 : (Jvm.Cond.instanceMethod ({ cls := "ElephantEdgeModel", name := "thrown", desc := "()I" } : Jvm.MethodName)) ∈ lw_all := lw_g (lw_at lw_m7 122 rfl) rfl
theorem q1673 : (Jvm.Cond.selects "ElephantEdgeModel" ({ cls := "ElephantEdgeModel", name := "thrown", desc := "()I" } : Jvm.MethodName) ({ cls := "ElephantEdgeModel", name := "thrown", desc := "()I" } : Jvm.MethodName)) ∈ lw_all := lw_g (lw_at lw_m7 123 rfl) rfl
theorem q1674 : (Jvm.Cond.code ({ cls := "ElephantEdgeModel", name := "thrown", desc := "()I" } : Jvm.MethodName) prog_23_method_1_code (1 : Nat) (Option.some Jvm.ClassFile.FieldType.int)) ∈ lw_all := lw_g (lw_at lw_m7 124 rfl) rfl
theorem q1676 : (Jvm.Cond.instantiable "ElephantEdgeModel" (107 : Nat)) ∈ lw_all := lw_g (lw_at lw_m7 126 rfl) rfl
theorem q1678 : (Jvm.Cond.instanceMethod ({ cls := "ElephantEdgeModel", name := "<init>", desc := "()V" } : Jvm.MethodName)) ∈ lw_all := lw_g (lw_at lw_m7 128 rfl) rfl
theorem q1679 : (Jvm.Cond.code ({ cls := "ElephantEdgeModel", name := "<init>", desc := "()V" } : Jvm.MethodName) prog_23_method_4_code (2 : Nat) (Option.none : Option Jvm.ClassFile.FieldType)) ∈ lw_all := lw_g (lw_at lw_m7 129 rfl) rfl
theorem q1680 : (Jvm.Cond.methodLink "ElephantEdgeModel" (7 : Nat) ({ cls := "java/lang/Object", name := "<init>", desc := "()V" } : Jvm.MethodName)) ∈ lw_all := lw_g (lw_at lw_m7 130 rfl) rfl
theorem q1681 : (Jvm.Cond.methodLink "ElephantEdgeModel" (207 : Nat) ({ cls := "ElephantEdgeModel", name := "plain", desc := "()V" } : Jvm.MethodName)) ∈ lw_all := lw_g (lw_at lw_m7 131 rfl) rfl
theorem q1682 : (Jvm.Cond.privateMethod ({ cls := "ElephantEdgeModel", name := "plain", desc := "()V" } : Jvm.MethodName)) ∈ lw_tbl := lw_at lw_m7 132 rfl
theorem q1683 : (Jvm.Cond.instanceMethod ({ cls := "ElephantEdgeModel", name := "plain", desc := "()V" } : Jvm.MethodName)) ∈ lw_all := lw_g (lw_at lw_m7 133 rfl) rfl
theorem q1684 : (Jvm.Cond.code ({ cls := "ElephantEdgeModel", name := "plain", desc := "()V" } : Jvm.MethodName) prog_23_method_18_code (1 : Nat) (Option.none : Option Jvm.ClassFile.FieldType)) ∈ lw_all := lw_g (lw_at lw_m7 134 rfl) rfl
theorem q1685 : (Jvm.Cond.methodLink "ElephantEdgeModel" (236 : Nat) ({ cls := "ElephantEdgeModel", name := "begin", desc := "()V" } : Jvm.MethodName)) ∈ lw_all := lw_g (lw_at lw_m7 135 rfl) rfl
theorem q1686 : (Jvm.Cond.privateMethod ({ cls := "ElephantEdgeModel", name := "begin", desc := "()V" } : Jvm.MethodName)) ∈ lw_tbl := lw_at lw_m7 136 rfl
theorem q1687 : (Jvm.Cond.instanceMethod ({ cls := "ElephantEdgeModel", name := "begin", desc := "()V" } : Jvm.MethodName)) ∈ lw_all := lw_g (lw_at lw_m7 137 rfl) rfl
theorem q1688 : (Jvm.Cond.code ({ cls := "ElephantEdgeModel", name := "begin", desc := "()V" } : Jvm.MethodName) prog_23_method_19_code (2 : Nat) (Option.none : Option Jvm.ClassFile.FieldType)) ∈ lw_all := lw_g (lw_at lw_m7 138 rfl) rfl
theorem q1689 : (Jvm.Cond.methodLink "ElephantEdgeModel" (239 : Nat) ({ cls := "ElephantEdgeModel", name := "take", desc := "()V" } : Jvm.MethodName)) ∈ lw_all := lw_g (lw_at lw_m7 139 rfl) rfl
theorem q1690 : (Jvm.Cond.privateMethod ({ cls := "ElephantEdgeModel", name := "take", desc := "()V" } : Jvm.MethodName)) ∈ lw_tbl := lw_at lw_m7 140 rfl
theorem q1691 : (Jvm.Cond.instanceMethod ({ cls := "ElephantEdgeModel", name := "take", desc := "()V" } : Jvm.MethodName)) ∈ lw_all := lw_g (lw_at lw_m7 141 rfl) rfl
theorem q1692 : (Jvm.Cond.code ({ cls := "ElephantEdgeModel", name := "take", desc := "()V" } : Jvm.MethodName) prog_23_method_20_code (2 : Nat) (Option.none : Option Jvm.ClassFile.FieldType)) ∈ lw_all := lw_g (lw_at lw_m7 142 rfl) rfl
theorem q1693 : (Jvm.Cond.fieldLink "ElephantEdgeModel" (1 : Nat) "ElephantEdgeModel" "thrown" "I") ∈ lw_all := lw_g (lw_at lw_m7 143 rfl) rfl
theorem q1694 : (Jvm.Cond.fieldLink "ElephantEdgeModel" (424 : Nat) "ElephantEdgeModel" "night" "I") ∈ lw_all := lw_g (lw_at lw_m7 144 rfl) rfl
theorem q1695 : (Jvm.Cond.fieldLink "ElephantEdgeModel" (13 : Nat) "ElephantEdgeModel" "kind" "[I") ∈ lw_all := lw_g (lw_at lw_m7 145 rfl) rfl
theorem q1696 : (Jvm.Cond.fieldLink "ElephantEdgeModel" (17 : Nat) "ElephantEdgeModel" "family" "[I") ∈ lw_all := lw_g (lw_at lw_m7 146 rfl) rfl
theorem q1697 : (Jvm.Cond.fieldLink "ElephantEdgeModel" (20 : Nat) "ElephantEdgeModel" "crop" "[I") ∈ lw_all := lw_g (lw_at lw_m7 147 rfl) rfl
theorem q1698 : (Jvm.Cond.fieldLink "ElephantEdgeModel" (23 : Nat) "ElephantEdgeModel" "stalks" "[I") ∈ lw_all := lw_g (lw_at lw_m7 148 rfl) rfl
theorem q1699 : (Jvm.Cond.fieldLink "ElephantEdgeModel" (26 : Nat) "ElephantEdgeModel" "fear" "[I") ∈ lw_all := lw_g (lw_at lw_m7 149 rfl) rfl
theorem q1700 : (Jvm.Cond.fieldLink "ElephantEdgeModel" (29 : Nat) "ElephantEdgeModel" "fence" "[I") ∈ lw_all := lw_g (lw_at lw_m7 150 rfl) rfl
theorem q1701 : (Jvm.Cond.fieldLink "ElephantEdgeModel" (32 : Nat) "ElephantEdgeModel" "builder" "[I") ∈ lw_all := lw_g (lw_at lw_m7 151 rfl) rfl
theorem q1702 : (Jvm.Cond.fieldLink "ElephantEdgeModel" (35 : Nat) "ElephantEdgeModel" "village" "[I") ∈ lw_all := lw_g (lw_at lw_m7 152 rfl) rfl
theorem q1703 : (Jvm.Cond.fieldLink "ElephantEdgeModel" (278 : Nat) "ElephantEdgeModel" "taped" "I") ∈ lw_all := lw_g (lw_at lw_m7 153 rfl) rfl
theorem q1704 : (Jvm.Cond.fieldLink "ElephantEdgeModel" (287 : Nat) "ElephantEdgeModel" "size" "I") ∈ lw_all := lw_g (lw_at lw_m7 154 rfl) rfl
theorem q1705 : (Jvm.Cond.fieldLink "ElephantEdgeModel" (284 : Nat) "ElephantEdgeModel" "at" "I") ∈ lw_all := lw_g (lw_at lw_m7 155 rfl) rfl
theorem q1706 : (Jvm.Cond.fieldLink "ElephantEdgeModel" (281 : Nat) "ElephantEdgeModel" "bad" "I") ∈ lw_all := lw_g (lw_at lw_m7 156 rfl) rfl
theorem q1707 : (Jvm.Cond.fieldLink "ElephantEdgeModel" (308 : Nat) "ElephantEdgeModel" "codes" "I") ∈ lw_all := lw_g (lw_at lw_m7 157 rfl) rfl
theorem q1708 : (Jvm.Cond.fieldLink "ElephantEdgeModel" (311 : Nat) "ElephantEdgeModel" "opens" "I") ∈ lw_all := lw_g (lw_at lw_m7 158 rfl) rfl
theorem q1709 : (Jvm.Cond.fieldLink "ElephantEdgeModel" (260 : Nat) "ElephantEdgeModel" "clauses" "I") ∈ lw_all := lw_g (lw_at lw_m7 159 rfl) rfl
theorem q1710 : (Jvm.Cond.fieldLink "ElephantEdgeModel" (38 : Nat) "ElephantEdgeModel" "tape" "[I") ∈ lw_all := lw_g (lw_at lw_m7 160 rfl) rfl
theorem q1711 : (Jvm.Cond.fieldLink "ElephantEdgeModel" (41 : Nat) "ElephantEdgeModel" "code" "[I") ∈ lw_all := lw_g (lw_at lw_m7 161 rfl) rfl
theorem q1712 : (Jvm.Cond.fieldLink "ElephantEdgeModel" (44 : Nat) "ElephantEdgeModel" "codeNumber" "[I") ∈ lw_all := lw_g (lw_at lw_m7 162 rfl) rfl
theorem q1713 : (Jvm.Cond.fieldLink "ElephantEdgeModel" (47 : Nat) "ElephantEdgeModel" "pay" "[I") ∈ lw_all := lw_g (lw_at lw_m7 163 rfl) rfl
theorem q1714 : (Jvm.Cond.fieldLink "ElephantEdgeModel" (50 : Nat) "ElephantEdgeModel" "payNumber" "[I") ∈ lw_all := lw_g (lw_at lw_m7 164 rfl) rfl
theorem q1715 : (Jvm.Cond.fieldLink "ElephantEdgeModel" (275 : Nat) "ElephantEdgeModel" "paySize" "I") ∈ lw_all := lw_g (lw_at lw_m7 165 rfl) rfl
theorem q1716 : (Jvm.Cond.fieldLink "ElephantEdgeModel" (263 : Nat) "ElephantEdgeModel" "step" "I") ∈ lw_all := lw_g (lw_at lw_m7 166 rfl) rfl
theorem q1717 : (Jvm.Cond.fieldLink "ElephantEdgeModel" (266 : Nat) "ElephantEdgeModel" "scare" "I") ∈ lw_all := lw_g (lw_at lw_m7 167 rfl) rfl
theorem q1718 : (Jvm.Cond.fieldLink "ElephantEdgeModel" (269 : Nat) "ElephantEdgeModel" "wear" "I") ∈ lw_all := lw_g (lw_at lw_m7 168 rfl) rfl
theorem q1719 : (Jvm.Cond.fieldLink "ElephantEdgeModel" (272 : Nat) "ElephantEdgeModel" "cap" "I") ∈ lw_all := lw_g (lw_at lw_m7 169 rfl) rfl
theorem q1720 : (Jvm.Cond.fieldLink "ElephantEdgeModel" (53 : Nat) "ElephantEdgeModel" "like" "[I") ∈ lw_all := lw_g (lw_at lw_m7 170 rfl) rfl
theorem q1721 : (Jvm.Cond.fieldLink "ElephantEdgeModel" (56 : Nat) "ElephantEdgeModel" "likeMany" "[I") ∈ lw_all := lw_g (lw_at lw_m7 171 rfl) rfl
theorem q1722 : (Jvm.Cond.fieldLink "ElephantEdgeModel" (242 : Nat) "ElephantEdgeModel" "newClauses" "I") ∈ lw_all := lw_g (lw_at lw_m7 172 rfl) rfl
theorem q1723 : (Jvm.Cond.fieldLink "ElephantEdgeModel" (245 : Nat) "ElephantEdgeModel" "newStep" "I") ∈ lw_all := lw_g (lw_at lw_m7 173 rfl) rfl
theorem q1724 : (Jvm.Cond.fieldLink "ElephantEdgeModel" (248 : Nat) "ElephantEdgeModel" "newScare" "I") ∈ lw_all := lw_g (lw_at lw_m7 174 rfl) rfl
theorem q1725 : (Jvm.Cond.fieldLink "ElephantEdgeModel" (251 : Nat) "ElephantEdgeModel" "newWear" "I") ∈ lw_all := lw_g (lw_at lw_m7 175 rfl) rfl
theorem q1726 : (Jvm.Cond.fieldLink "ElephantEdgeModel" (254 : Nat) "ElephantEdgeModel" "newCap" "I") ∈ lw_all := lw_g (lw_at lw_m7 176 rfl) rfl
theorem q1727 : (Jvm.Cond.fieldLink "ElephantEdgeModel" (257 : Nat) "ElephantEdgeModel" "newPaySize" "I") ∈ lw_all := lw_g (lw_at lw_m7 177 rfl) rfl
theorem q1728 : (Jvm.Cond.fieldLink "ElephantEdgeModel" (59 : Nat) "ElephantEdgeModel" "newLike" "[I") ∈ lw_all := lw_g (lw_at lw_m7 178 rfl) rfl
theorem q1729 : (Jvm.Cond.fieldLink "ElephantEdgeModel" (62 : Nat) "ElephantEdgeModel" "newLikeMany" "[I") ∈ lw_all := lw_g (lw_at lw_m7 179 rfl) rfl
theorem q1730 : (Jvm.Cond.fieldLink "ElephantEdgeModel" (65 : Nat) "ElephantEdgeModel" "newPay" "[I") ∈ lw_all := lw_g (lw_at lw_m7 180 rfl) rfl
theorem q1731 : (Jvm.Cond.fieldLink "ElephantEdgeModel" (68 : Nat) "ElephantEdgeModel" "newPayNumber" "[I") ∈ lw_all := lw_g (lw_at lw_m7 181 rfl) rfl
theorem q1732 : (Jvm.Cond.fieldLink "ElephantEdgeModel" (225 : Nat) "ElephantEdgeModel" "herds" "I") ∈ lw_all := lw_g (lw_at lw_m7 182 rfl) rfl
theorem q1733 : (Jvm.Cond.fieldLink "ElephantEdgeModel" (71 : Nat) "ElephantEdgeModel" "home" "[I") ∈ lw_all := lw_g (lw_at lw_m7 183 rfl) rfl
theorem q1734 : (Jvm.Cond.fieldLink "ElephantEdgeModel" (74 : Nat) "ElephantEdgeModel" "hunger" "[I") ∈ lw_all := lw_g (lw_at lw_m7 184 rfl) rfl
theorem q1735 : (Jvm.Cond.fieldLink "ElephantEdgeModel" (77 : Nat) "ElephantEdgeModel" "speed" "[I") ∈ lw_all := lw_g (lw_at lw_m7 185 rfl) rfl
theorem q1736 : (Jvm.Cond.fieldLink "ElephantEdgeModel" (80 : Nat) "ElephantEdgeModel" "sStalks" "[I") ∈ lw_all := lw_g (lw_at lw_m7 186 rfl) rfl
theorem q1737 : (Jvm.Cond.fieldLink "ElephantEdgeModel" (83 : Nat) "ElephantEdgeModel" "sFence" "[I") ∈ lw_all := lw_g (lw_at lw_m7 187 rfl) rfl
theorem q1738 : (Jvm.Cond.fieldLink "ElephantEdgeModel" (86 : Nat) "ElephantEdgeModel" "sFear" "[I") ∈ lw_all := lw_g (lw_at lw_m7 188 rfl) rfl
theorem q1739 : (Jvm.Cond.fieldLink "ElephantEdgeModel" (89 : Nat) "ElephantEdgeModel" "costs" "[I") ∈ lw_all := lw_g (lw_at lw_m7 189 rfl) rfl
theorem q1740 : (Jvm.Cond.fieldLink "ElephantEdgeModel" (92 : Nat) "ElephantEdgeModel" "onward" "[I") ∈ lw_all := lw_g (lw_at lw_m7 190 rfl) rfl
theorem q1741 : (Jvm.Cond.fieldLink "ElephantEdgeModel" (95 : Nat) "ElephantEdgeModel" "path" "[I") ∈ lw_all := lw_g (lw_at lw_m7 191 rfl) rfl
theorem q1742 : (Jvm.Cond.fieldLink "ElephantEdgeModel" (385 : Nat) "ElephantEdgeModel" "pathMany" "I") ∈ lw_all := lw_g (lw_at lw_m7 192 rfl) rfl
theorem q1743 : (Jvm.Cond.fieldLink "ElephantEdgeModel" (406 : Nat) "ElephantEdgeModel" "watches" "I") ∈ lw_all := lw_g (lw_at lw_m7 193 rfl) rfl
theorem q1744 : (Jvm.Cond.fieldLink "ElephantEdgeModel" (412 : Nat) "ElephantEdgeModel" "extras" "I") ∈ lw_all := lw_g (lw_at lw_m7 194 rfl) rfl
theorem q1745 : (Jvm.Cond.fieldLink "ElephantEdgeModel" (403 : Nat) "ElephantEdgeModel" "total" "I") ∈ lw_all := lw_g (lw_at lw_m7 195 rfl) rfl
theorem q1746 : (Jvm.Cond.fieldLink "ElephantEdgeModel" (98 : Nat) "ElephantEdgeModel" "watchFamily" "[I") ∈ lw_all := lw_g (lw_at lw_m7 196 rfl) rfl
theorem q1747 : (Jvm.Cond.fieldLink "ElephantEdgeModel" (101 : Nat) "ElephantEdgeModel" "watchCell" "[I") ∈ lw_all := lw_g (lw_at lw_m7 197 rfl) rfl
theorem q1748 : (Jvm.Cond.fieldLink "ElephantEdgeModel" (104 : Nat) "ElephantEdgeModel" "extra" "[I") ∈ lw_all := lw_g (lw_at lw_m7 198 rfl) rfl
theorem q1749 : (Jvm.Cond.fieldLink "ElephantEdgeModel" (107 : Nat) "ElephantEdgeModel" "lost" "[I") ∈ lw_all := lw_g (lw_at lw_m7 199 rfl) rfl
theorem q1750 : (Jvm.Cond.fieldLink "ElephantEdgeModel" (440 : Nat) "ElephantEdgeModel" "twelveMany" "I") ∈ lw_all := lw_g (lw_at lw_m7 200 rfl) rfl
theorem q1751 : (Jvm.Cond.fieldLink "ElephantEdgeModel" (446 : Nat) "ElephantEdgeModel" "builtCell" "I") ∈ lw_all := lw_g (lw_at lw_m7 201 rfl) rfl
theorem q1752 : (Jvm.Cond.fieldLink "ElephantEdgeModel" (452 : Nat) "ElephantEdgeModel" "builtOther" "I") ∈ lw_all := lw_g (lw_at lw_m7 202 rfl) rfl
theorem q1753 : (Jvm.Cond.fieldLink "ElephantEdgeModel" (449 : Nat) "ElephantEdgeModel" "builtLoss" "I") ∈ lw_all := lw_g (lw_at lw_m7 203 rfl) rfl
theorem q1754 : (Jvm.Cond.fieldLink "ElephantEdgeModel" (110 : Nat) "ElephantEdgeModel" "twelve" "[I") ∈ lw_all := lw_g (lw_at lw_m7 204 rfl) rfl
theorem q1755 : (Jvm.Cond.fieldLink "ElephantEdgeModel" (474 : Nat) "ElephantEdgeModel" "lastWatch" "I") ∈ lw_all := lw_g (lw_at lw_m7 205 rfl) rfl
theorem q1756 : (Jvm.Cond.fieldLink "ElephantEdgeModel" (469 : Nat) "ElephantEdgeModel" "claims" "I") ∈ lw_all := lw_g (lw_at lw_m7 206 rfl) rfl
theorem q1757 : (Jvm.Cond.fieldLink "ElephantEdgeModel" (537 : Nat) "ElephantEdgeModel" "found" "I") ∈ lw_all := lw_g (lw_at lw_m7 207 rfl) rfl
theorem q1758 : (Jvm.Cond.fieldLink "ElephantEdgeModel" (113 : Nat) "ElephantEdgeModel" "debt" "[I") ∈ lw_all := lw_g (lw_at lw_m7 208 rfl) rfl
theorem q1759 : (Jvm.Cond.fieldLink "ElephantEdgeModel" (116 : Nat) "ElephantEdgeModel" "watched" "[I") ∈ lw_all := lw_g (lw_at lw_m7 209 rfl) rfl
theorem q1760 : (Jvm.Cond.fieldLink "ElephantEdgeModel" (119 : Nat) "ElephantEdgeModel" "claimFamily" "[I") ∈ lw_all := lw_g (lw_at lw_m7 210 rfl) rfl
theorem q1761 : (Jvm.Cond.fieldLink "ElephantEdgeModel" (122 : Nat) "ElephantEdgeModel" "claimNight" "[I") ∈ lw_all := lw_g (lw_at lw_m7 211 rfl) rfl
theorem q1762 : (Jvm.Cond.fieldLink "ElephantEdgeModel" (125 : Nat) "ElephantEdgeModel" "claimPaid" "[I") ∈ lw_all := lw_g (lw_at lw_m7 212 rfl) rfl
theorem q1763 : (Jvm.Cond.fieldLink "ElephantEdgeModel" (490 : Nat) "ElephantEdgeModel" "postLoss" "I") ∈ lw_all := lw_g (lw_at lw_m7 213 rfl) rfl
theorem q1764 : (Jvm.Cond.fieldLink "ElephantEdgeModel" (486 : Nat) "ElephantEdgeModel" "hasPosts" "Z") ∈ lw_all := lw_g (lw_at lw_m7 214 rfl) rfl
theorem q1765 : (Jvm.Cond.fieldLink "ElephantEdgeModel" (128 : Nat) "ElephantEdgeModel" "bestPost" "[I") ∈ lw_all := lw_g (lw_at lw_m7 215 rfl) rfl
theorem q1766 : (Jvm.Cond.fieldLink "ElephantEdgeModel" (496 : Nat) "ElephantEdgeModel" "joins" "I") ∈ lw_all := lw_g (lw_at lw_m7 216 rfl) rfl
theorem q1767 : (Jvm.Cond.fieldLink "ElephantEdgeModel" (505 : Nat) "ElephantEdgeModel" "rotaMost" "I") ∈ lw_all := lw_g (lw_at lw_m7 217 rfl) rfl
theorem q1768 : (Jvm.Cond.fieldLink "ElephantEdgeModel" (508 : Nat) "ElephantEdgeModel" "rotaSquares" "I") ∈ lw_all := lw_g (lw_at lw_m7 218 rfl) rfl
theorem q1769 : (Jvm.Cond.fieldLink "ElephantEdgeModel" (502 : Nat) "ElephantEdgeModel" "hasRota" "Z") ∈ lw_all := lw_g (lw_at lw_m7 219 rfl) rfl
theorem q1770 : (Jvm.Cond.fieldLink "ElephantEdgeModel" (131 : Nat) "ElephantEdgeModel" "isAway" "[Z") ∈ lw_all := lw_g (lw_at lw_m7 220 rfl) rfl
theorem q1771 : (Jvm.Cond.fieldLink "ElephantEdgeModel" (135 : Nat) "ElephantEdgeModel" "load" "[I") ∈ lw_all := lw_g (lw_at lw_m7 221 rfl) rfl
theorem q1772 : (Jvm.Cond.fieldLink "ElephantEdgeModel" (138 : Nat) "ElephantEdgeModel" "rotaSet" "[I") ∈ lw_all := lw_g (lw_at lw_m7 222 rfl) rfl
theorem q1773 : (Jvm.Cond.fieldLink "ElephantEdgeModel" (141 : Nat) "ElephantEdgeModel" "bestRota" "[I") ∈ lw_all := lw_g (lw_at lw_m7 223 rfl) rfl
theorem q1774 : (Jvm.Cond.fieldLink "ElephantEdgeModel" (530 : Nat) "ElephantEdgeModel" "rows" "I") ∈ lw_all := lw_g (lw_at lw_m7 224 rfl) rfl
theorem q1775 : (Jvm.Cond.fieldLink "ElephantEdgeModel" (547 : Nat) "ElephantEdgeModel" "fund" "I") ∈ lw_all := lw_g (lw_at lw_m7 225 rfl) rfl
theorem q1776 : (Jvm.Cond.fieldLink "ElephantEdgeModel" (144 : Nat) "ElephantEdgeModel" "rowClaim" "[I") ∈ lw_all := lw_g (lw_at lw_m7 226 rfl) rfl
theorem q1777 : (Jvm.Cond.fieldLink "ElephantEdgeModel" (147 : Nat) "ElephantEdgeModel" "rowNight" "[I") ∈ lw_all := lw_g (lw_at lw_m7 227 rfl) rfl
theorem q1778 : (Jvm.Cond.fieldLink "ElephantEdgeModel" (150 : Nat) "ElephantEdgeModel" "rowStalks" "[I") ∈ lw_all := lw_g (lw_at lw_m7 228 rfl) rfl
theorem q1779 : (Jvm.Cond.fieldLink "ElephantEdgeModel" (153 : Nat) "ElephantEdgeModel" "stack" "[I") ∈ lw_all := lw_g (lw_at lw_m7 229 rfl) rfl
theorem q1780 : (Jvm.Cond.fieldLink "ElephantEdgeModel" (156 : Nat) "ElephantEdgeModel" "fixMany" "[I") ∈ lw_all := lw_g (lw_at lw_m7 230 rfl) rfl
theorem q1781 : (Jvm.Cond.fieldLink "ElephantEdgeModel" (159 : Nat) "ElephantEdgeModel" "fixHour" "[I") ∈ lw_all := lw_g (lw_at lw_m7 231 rfl) rfl
theorem q1782 : (Jvm.Cond.fieldLink "ElephantEdgeModel" (162 : Nat) "ElephantEdgeModel" "fixCell" "[I") ∈ lw_all := lw_g (lw_at lw_m7 232 rfl) rfl
theorem q1783 : (Jvm.Cond.fieldLink "ElephantEdgeModel" (165 : Nat) "ElephantEdgeModel" "steps" "[I") ∈ lw_all := lw_g (lw_at lw_m7 233 rfl) rfl
theorem q1784 : (Jvm.Cond.fieldLink "ElephantEdgeModel" (168 : Nat) "ElephantEdgeModel" "stepsOn" "[I") ∈ lw_all := lw_g (lw_at lw_m7 234 rfl) rfl
theorem q1785 : (Jvm.Cond.fieldLink "ElephantEdgeModel" (171 : Nat) "ElephantEdgeModel" "mayBeAt" "[Z") ∈ lw_all := lw_g (lw_at lw_m7 235 rfl) rfl
theorem q1786 : (Jvm.Cond.fieldLink "ElephantEdgeModel" (571 : Nat) "ElephantEdgeModel" "wires" "I") ∈ lw_all := lw_g (lw_at lw_m7 236 rfl) rfl
theorem q1787 : (Jvm.Cond.fieldLink "ElephantEdgeModel" (574 : Nat) "ElephantEdgeModel" "winds" "I") ∈ lw_all := lw_g (lw_at lw_m7 237 rfl) rfl
theorem q1788 : (Jvm.Cond.fieldLink "ElephantEdgeModel" (580 : Nat) "ElephantEdgeModel" "trips" "I") ∈ lw_all := lw_g (lw_at lw_m7 238 rfl) rfl
theorem q1789 : (Jvm.Cond.fieldLink "ElephantEdgeModel" (174 : Nat) "ElephantEdgeModel" "wireCell" "[I") ∈ lw_all := lw_g (lw_at lw_m7 239 rfl) rfl
theorem q1790 : (Jvm.Cond.fieldLink "ElephantEdgeModel" (177 : Nat) "ElephantEdgeModel" "wireOther" "[I") ∈ lw_all := lw_g (lw_at lw_m8 0 rfl) rfl
theorem q1791 : (Jvm.Cond.fieldLink "ElephantEdgeModel" (180 : Nat) "ElephantEdgeModel" "weak" "[I") ∈ lw_all := lw_g (lw_at lw_m8 1 rfl) rfl
theorem q1792 : (Jvm.Cond.fieldLink "ElephantEdgeModel" (183 : Nat) "ElephantEdgeModel" "windHour" "[I") ∈ lw_all := lw_g (lw_at lw_m8 2 rfl) rfl
theorem q1793 : (Jvm.Cond.fieldLink "ElephantEdgeModel" (186 : Nat) "ElephantEdgeModel" "windForce" "[I") ∈ lw_all := lw_g (lw_at lw_m8 3 rfl) rfl
theorem q1794 : (Jvm.Cond.fieldLink "ElephantEdgeModel" (189 : Nat) "ElephantEdgeModel" "tripWire" "[I") ∈ lw_all := lw_g (lw_at lw_m8 4 rfl) rfl
theorem q1795 : (Jvm.Cond.fieldLink "ElephantEdgeModel" (192 : Nat) "ElephantEdgeModel" "tripHour" "[I") ∈ lw_all := lw_g (lw_at lw_m8 5 rfl) rfl
theorem q1796 : (Jvm.Cond.fieldLink "ElephantEdgeModel" (195 : Nat) "ElephantEdgeModel" "isBarred" "[Z") ∈ lw_all := lw_g (lw_at lw_m8 6 rfl) rfl
theorem q1797 : (Jvm.Cond.fieldLink "ElephantEdgeModel" (198 : Nat) "ElephantEdgeModel" "isLeased" "[Z") ∈ lw_all := lw_g (lw_at lw_m8 7 rfl) rfl
theorem q1798 : (Jvm.Cond.fieldLink "ElephantEdgeModel" (201 : Nat) "ElephantEdgeModel" "rent" "[I") ∈ lw_all := lw_g (lw_at lw_m8 8 rfl) rfl
theorem q1799 : (Jvm.Cond.fieldLink "ElephantEdgeModel" (204 : Nat) "ElephantEdgeModel" "rest" "[I") ∈ lw_all := lw_g (lw_at lw_m8 9 rfl) rfl
theorem q1800 : (Jvm.Cond.lays "ElephantEdgeModel" "ElephantEdgeModel" "thrown" "I") ∈ lw_all := lw_g (lw_at lw_m8 10 rfl) rfl
theorem q1801 : (Jvm.Cond.soleField "ElephantEdgeModel" "thrown") ∈ lw_all := lw_g (lw_at lw_m8 11 rfl) rfl
theorem q1802 : (Jvm.Cond.lays "ElephantEdgeModel" "ElephantEdgeModel" "night" "I") ∈ lw_all := lw_g (lw_at lw_m8 12 rfl) rfl
theorem q1803 : (Jvm.Cond.soleField "ElephantEdgeModel" "night") ∈ lw_all := lw_g (lw_at lw_m8 13 rfl) rfl
theorem q1804 : (Jvm.Cond.laysFinal "ElephantEdgeModel" "ElephantEdgeModel" "kind" "[I") ∈ lw_all := lw_g (lw_at lw_m8 14 rfl) rfl
theorem q1805 : (Jvm.Cond.soleField "ElephantEdgeModel" "kind") ∈ lw_all := lw_g (lw_at lw_m8 15 rfl) rfl
theorem q1806 : (Jvm.Cond.laysFinal "ElephantEdgeModel" "ElephantEdgeModel" "family" "[I") ∈ lw_all := lw_g (lw_at lw_m8 16 rfl) rfl
theorem q1807 : (Jvm.Cond.soleField "ElephantEdgeModel" "family") ∈ lw_all := lw_g (lw_at lw_m8 17 rfl) rfl
theorem q1808 : (Jvm.Cond.laysFinal "ElephantEdgeModel" "ElephantEdgeModel" "crop" "[I") ∈ lw_all := lw_g (lw_at lw_m8 18 rfl) rfl
theorem q1809 : (Jvm.Cond.soleField "ElephantEdgeModel" "crop") ∈ lw_all := lw_g (lw_at lw_m8 19 rfl) rfl
theorem q1810 : (Jvm.Cond.laysFinal "ElephantEdgeModel" "ElephantEdgeModel" "stalks" "[I") ∈ lw_all := lw_g (lw_at lw_m8 20 rfl) rfl
theorem q1811 : (Jvm.Cond.soleField "ElephantEdgeModel" "stalks") ∈ lw_all := lw_g (lw_at lw_m8 21 rfl) rfl
theorem q1812 : (Jvm.Cond.laysFinal "ElephantEdgeModel" "ElephantEdgeModel" "fear" "[I") ∈ lw_all := lw_g (lw_at lw_m8 22 rfl) rfl
theorem q1813 : (Jvm.Cond.soleField "ElephantEdgeModel" "fear") ∈ lw_all := lw_g (lw_at lw_m8 23 rfl) rfl
theorem q1814 : (Jvm.Cond.laysFinal "ElephantEdgeModel" "ElephantEdgeModel" "fence" "[I") ∈ lw_all := lw_g (lw_at lw_m8 24 rfl) rfl
theorem q1815 : (Jvm.Cond.soleField "ElephantEdgeModel" "fence") ∈ lw_all := lw_g (lw_at lw_m8 25 rfl) rfl
theorem q1816 : (Jvm.Cond.laysFinal "ElephantEdgeModel" "ElephantEdgeModel" "builder" "[I") ∈ lw_all := lw_g (lw_at lw_m8 26 rfl) rfl
theorem q1817 : (Jvm.Cond.soleField "ElephantEdgeModel" "builder") ∈ lw_all := lw_g (lw_at lw_m8 27 rfl) rfl
theorem q1818 : (Jvm.Cond.laysFinal "ElephantEdgeModel" "ElephantEdgeModel" "village" "[I") ∈ lw_all := lw_g (lw_at lw_m8 28 rfl) rfl
theorem q1819 : (Jvm.Cond.soleField "ElephantEdgeModel" "village") ∈ lw_all := lw_g (lw_at lw_m8 29 rfl) rfl
theorem q1820 : (Jvm.Cond.lays "ElephantEdgeModel" "ElephantEdgeModel" "taped" "I") ∈ lw_all := lw_g (lw_at lw_m8 30 rfl) rfl
theorem q1821 : (Jvm.Cond.soleField "ElephantEdgeModel" "taped") ∈ lw_all := lw_g (lw_at lw_m8 31 rfl) rfl
theorem q1822 : (Jvm.Cond.lays "ElephantEdgeModel" "ElephantEdgeModel" "size" "I") ∈ lw_all := lw_g (lw_at lw_m8 32 rfl) rfl
theorem q1823 : (Jvm.Cond.soleField "ElephantEdgeModel" "size") ∈ lw_all := lw_g (lw_at lw_m8 33 rfl) rfl
theorem q1824 : (Jvm.Cond.lays "ElephantEdgeModel" "ElephantEdgeModel" "at" "I") ∈ lw_all := lw_g (lw_at lw_m8 34 rfl) rfl
theorem q1825 : (Jvm.Cond.soleField "ElephantEdgeModel" "at") ∈ lw_all := lw_g (lw_at lw_m8 35 rfl) rfl
theorem q1826 : (Jvm.Cond.lays "ElephantEdgeModel" "ElephantEdgeModel" "bad" "I") ∈ lw_all := lw_g (lw_at lw_m8 36 rfl) rfl
theorem q1827 : (Jvm.Cond.soleField "ElephantEdgeModel" "bad") ∈ lw_all := lw_g (lw_at lw_m8 37 rfl) rfl
theorem q1828 : (Jvm.Cond.lays "ElephantEdgeModel" "ElephantEdgeModel" "codes" "I") ∈ lw_all := lw_g (lw_at lw_m8 38 rfl) rfl
theorem q1829 : (Jvm.Cond.soleField "ElephantEdgeModel" "codes") ∈ lw_all := lw_g (lw_at lw_m8 39 rfl) rfl
theorem q1830 : (Jvm.Cond.lays "ElephantEdgeModel" "ElephantEdgeModel" "opens" "I") ∈ lw_all := lw_g (lw_at lw_m8 40 rfl) rfl
theorem q1831 : (Jvm.Cond.soleField "ElephantEdgeModel" "opens") ∈ lw_all := lw_g (lw_at lw_m8 41 rfl) rfl
theorem q1832 : (Jvm.Cond.lays "ElephantEdgeModel" "ElephantEdgeModel" "clauses" "I") ∈ lw_all := lw_g (lw_at lw_m8 42 rfl) rfl
theorem q1833 : (Jvm.Cond.soleField "ElephantEdgeModel" "clauses") ∈ lw_all := lw_g (lw_at lw_m8 43 rfl) rfl
theorem q1834 : (Jvm.Cond.laysFinal "ElephantEdgeModel" "ElephantEdgeModel" "tape" "[I") ∈ lw_all := lw_g (lw_at lw_m8 44 rfl) rfl
theorem q1835 : (Jvm.Cond.soleField "ElephantEdgeModel" "tape") ∈ lw_all := lw_g (lw_at lw_m8 45 rfl) rfl
theorem q1836 : (Jvm.Cond.laysFinal "ElephantEdgeModel" "ElephantEdgeModel" "code" "[I") ∈ lw_all := lw_g (lw_at lw_m8 46 rfl) rfl
theorem q1837 : (Jvm.Cond.soleField "ElephantEdgeModel" "code") ∈ lw_all := lw_g (lw_at lw_m8 47 rfl) rfl
theorem q1838 : (Jvm.Cond.laysFinal "ElephantEdgeModel" "ElephantEdgeModel" "codeNumber" "[I") ∈ lw_all := lw_g (lw_at lw_m8 48 rfl) rfl
theorem q1839 : (Jvm.Cond.soleField "ElephantEdgeModel" "codeNumber") ∈ lw_all := lw_g (lw_at lw_m8 49 rfl) rfl
theorem q1840 : (Jvm.Cond.laysFinal "ElephantEdgeModel" "ElephantEdgeModel" "pay" "[I") ∈ lw_all := lw_g (lw_at lw_m8 50 rfl) rfl
theorem q1841 : (Jvm.Cond.soleField "ElephantEdgeModel" "pay") ∈ lw_all := lw_g (lw_at lw_m8 51 rfl) rfl
theorem q1842 : (Jvm.Cond.laysFinal "ElephantEdgeModel" "ElephantEdgeModel" "payNumber" "[I") ∈ lw_all := lw_g (lw_at lw_m8 52 rfl) rfl
theorem q1843 : (Jvm.Cond.soleField "ElephantEdgeModel" "payNumber") ∈ lw_all := lw_g (lw_at lw_m8 53 rfl) rfl
theorem q1844 : (Jvm.Cond.lays "ElephantEdgeModel" "ElephantEdgeModel" "paySize" "I") ∈ lw_all := lw_g (lw_at lw_m8 54 rfl) rfl
theorem q1845 : (Jvm.Cond.soleField "ElephantEdgeModel" "paySize") ∈ lw_all := lw_g (lw_at lw_m8 55 rfl) rfl
theorem q1846 : (Jvm.Cond.lays "ElephantEdgeModel" "ElephantEdgeModel" "step" "I") ∈ lw_all := lw_g (lw_at lw_m8 56 rfl) rfl
theorem q1847 : (Jvm.Cond.soleField "ElephantEdgeModel" "step") ∈ lw_all := lw_g (lw_at lw_m8 57 rfl) rfl
theorem q1848 : (Jvm.Cond.lays "ElephantEdgeModel" "ElephantEdgeModel" "scare" "I") ∈ lw_all := lw_g (lw_at lw_m8 58 rfl) rfl
theorem q1849 : (Jvm.Cond.soleField "ElephantEdgeModel" "scare") ∈ lw_all := lw_g (lw_at lw_m8 59 rfl) rfl
theorem q1850 : (Jvm.Cond.lays "ElephantEdgeModel" "ElephantEdgeModel" "wear" "I") ∈ lw_all := lw_g (lw_at lw_m8 60 rfl) rfl
theorem q1851 : (Jvm.Cond.soleField "ElephantEdgeModel" "wear") ∈ lw_all := lw_g (lw_at lw_m8 61 rfl) rfl
theorem q1852 : (Jvm.Cond.lays "ElephantEdgeModel" "ElephantEdgeModel" "cap" "I") ∈ lw_all := lw_g (lw_at lw_m8 62 rfl) rfl
theorem q1853 : (Jvm.Cond.soleField "ElephantEdgeModel" "cap") ∈ lw_all := lw_g (lw_at lw_m8 63 rfl) rfl
theorem q1854 : (Jvm.Cond.laysFinal "ElephantEdgeModel" "ElephantEdgeModel" "like" "[I") ∈ lw_all := lw_g (lw_at lw_m8 64 rfl) rfl
theorem q1855 : (Jvm.Cond.soleField "ElephantEdgeModel" "like") ∈ lw_all := lw_g (lw_at lw_m8 65 rfl) rfl
theorem q1856 : (Jvm.Cond.laysFinal "ElephantEdgeModel" "ElephantEdgeModel" "likeMany" "[I") ∈ lw_all := lw_g (lw_at lw_m8 66 rfl) rfl
theorem q1857 : (Jvm.Cond.soleField "ElephantEdgeModel" "likeMany") ∈ lw_all := lw_g (lw_at lw_m8 67 rfl) rfl
theorem q1858 : (Jvm.Cond.lays "ElephantEdgeModel" "ElephantEdgeModel" "newClauses" "I") ∈ lw_all := lw_g (lw_at lw_m8 68 rfl) rfl
theorem q1859 : (Jvm.Cond.soleField "ElephantEdgeModel" "newClauses") ∈ lw_all := lw_g (lw_at lw_m8 69 rfl) rfl
theorem q1860 : (Jvm.Cond.lays "ElephantEdgeModel" "ElephantEdgeModel" "newStep" "I") ∈ lw_all := lw_g (lw_at lw_m8 70 rfl) rfl
theorem q1861 : (Jvm.Cond.soleField "ElephantEdgeModel" "newStep") ∈ lw_all := lw_g (lw_at lw_m8 71 rfl) rfl
theorem q1862 : (Jvm.Cond.lays "ElephantEdgeModel" "ElephantEdgeModel" "newScare" "I") ∈ lw_all := lw_g (lw_at lw_m8 72 rfl) rfl
theorem q1863 : (Jvm.Cond.soleField "ElephantEdgeModel" "newScare") ∈ lw_all := lw_g (lw_at lw_m8 73 rfl) rfl
theorem q1864 : (Jvm.Cond.lays "ElephantEdgeModel" "ElephantEdgeModel" "newWear" "I") ∈ lw_all := lw_g (lw_at lw_m8 74 rfl) rfl
theorem q1865 : (Jvm.Cond.soleField "ElephantEdgeModel" "newWear") ∈ lw_all := lw_g (lw_at lw_m8 75 rfl) rfl
theorem q1866 : (Jvm.Cond.lays "ElephantEdgeModel" "ElephantEdgeModel" "newCap" "I") ∈ lw_all := lw_g (lw_at lw_m8 76 rfl) rfl
theorem q1867 : (Jvm.Cond.soleField "ElephantEdgeModel" "newCap") ∈ lw_all := lw_g (lw_at lw_m8 77 rfl) rfl
theorem q1868 : (Jvm.Cond.lays "ElephantEdgeModel" "ElephantEdgeModel" "newPaySize" "I") ∈ lw_all := lw_g (lw_at lw_m8 78 rfl) rfl
theorem q1869 : (Jvm.Cond.soleField "ElephantEdgeModel" "newPaySize") ∈ lw_all := lw_g (lw_at lw_m8 79 rfl) rfl
theorem q1870 : (Jvm.Cond.laysFinal "ElephantEdgeModel" "ElephantEdgeModel" "newLike" "[I") ∈ lw_all := lw_g (lw_at lw_m8 80 rfl) rfl
theorem q1871 : (Jvm.Cond.soleField "ElephantEdgeModel" "newLike") ∈ lw_all := lw_g (lw_at lw_m8 81 rfl) rfl
theorem q1872 : (Jvm.Cond.laysFinal "ElephantEdgeModel" "ElephantEdgeModel" "newLikeMany" "[I") ∈ lw_all := lw_g (lw_at lw_m8 82 rfl) rfl
theorem q1873 : (Jvm.Cond.soleField "ElephantEdgeModel" "newLikeMany") ∈ lw_all := lw_g (lw_at lw_m8 83 rfl) rfl
theorem q1874 : (Jvm.Cond.laysFinal "ElephantEdgeModel" "ElephantEdgeModel" "newPay" "[I") ∈ lw_all := lw_g (lw_at lw_m8 84 rfl) rfl
theorem q1875 : (Jvm.Cond.soleField "ElephantEdgeModel" "newPay") ∈ lw_all := lw_g (lw_at lw_m8 85 rfl) rfl
theorem q1876 : (Jvm.Cond.laysFinal "ElephantEdgeModel" "ElephantEdgeModel" "newPayNumber" "[I") ∈ lw_all := lw_g (lw_at lw_m8 86 rfl) rfl
theorem q1877 : (Jvm.Cond.soleField "ElephantEdgeModel" "newPayNumber") ∈ lw_all := lw_g (lw_at lw_m8 87 rfl) rfl
theorem q1878 : (Jvm.Cond.lays "ElephantEdgeModel" "ElephantEdgeModel" "herds" "I") ∈ lw_all := lw_g (lw_at lw_m8 88 rfl) rfl
theorem q1879 : (Jvm.Cond.soleField "ElephantEdgeModel" "herds") ∈ lw_all := lw_g (lw_at lw_m8 89 rfl) rfl
theorem q1880 : (Jvm.Cond.laysFinal "ElephantEdgeModel" "ElephantEdgeModel" "home" "[I") ∈ lw_all := lw_g (lw_at lw_m8 90 rfl) rfl
theorem q1881 : (Jvm.Cond.soleField "ElephantEdgeModel" "home") ∈ lw_all := lw_g (lw_at lw_m8 91 rfl) rfl
theorem q1882 : (Jvm.Cond.laysFinal "ElephantEdgeModel" "ElephantEdgeModel" "hunger" "[I") ∈ lw_all := lw_g (lw_at lw_m8 92 rfl) rfl
theorem q1883 : (Jvm.Cond.soleField "ElephantEdgeModel" "hunger") ∈ lw_all := lw_g (lw_at lw_m8 93 rfl) rfl
theorem q1884 : (Jvm.Cond.laysFinal "ElephantEdgeModel" "ElephantEdgeModel" "speed" "[I") ∈ lw_all := lw_g (lw_at lw_m8 94 rfl) rfl
theorem q1885 : (Jvm.Cond.soleField "ElephantEdgeModel" "speed") ∈ lw_all := lw_g (lw_at lw_m8 95 rfl) rfl
theorem q1886 : (Jvm.Cond.laysFinal "ElephantEdgeModel" "ElephantEdgeModel" "sStalks" "[I") ∈ lw_all := lw_g (lw_at lw_m8 96 rfl) rfl
theorem q1887 : (Jvm.Cond.soleField "ElephantEdgeModel" "sStalks") ∈ lw_all := lw_g (lw_at lw_m8 97 rfl) rfl
theorem q1888 : (Jvm.Cond.laysFinal "ElephantEdgeModel" "ElephantEdgeModel" "sFence" "[I") ∈ lw_all := lw_g (lw_at lw_m8 98 rfl) rfl
theorem q1889 : (Jvm.Cond.soleField "ElephantEdgeModel" "sFence") ∈ lw_all := lw_g (lw_at lw_m8 99 rfl) rfl
theorem q1890 : (Jvm.Cond.laysFinal "ElephantEdgeModel" "ElephantEdgeModel" "sFear" "[I") ∈ lw_all := lw_g (lw_at lw_m8 100 rfl) rfl
theorem q1891 : (Jvm.Cond.soleField "ElephantEdgeModel" "sFear") ∈ lw_all := lw_g (lw_at lw_m8 101 rfl) rfl
theorem q1892 : (Jvm.Cond.laysFinal "ElephantEdgeModel" "ElephantEdgeModel" "costs" "[I") ∈ lw_all := lw_g (lw_at lw_m8 102 rfl) rfl
theorem q1893 : (Jvm.Cond.soleField "ElephantEdgeModel" "costs") ∈ lw_all := lw_g (lw_at lw_m8 103 rfl) rfl
theorem q1894 : (Jvm.Cond.laysFinal "ElephantEdgeModel" "ElephantEdgeModel" "onward" "[I") ∈ lw_all := lw_g (lw_at lw_m8 104 rfl) rfl
theorem q1895 : (Jvm.Cond.soleField "ElephantEdgeModel" "onward") ∈ lw_all := lw_g (lw_at lw_m8 105 rfl) rfl
theorem q1896 : (Jvm.Cond.laysFinal "ElephantEdgeModel" "ElephantEdgeModel" "path" "[I") ∈ lw_all := lw_g (lw_at lw_m8 106 rfl) rfl
theorem q1897 : (Jvm.Cond.soleField "ElephantEdgeModel" "path") ∈ lw_all := lw_g (lw_at lw_m8 107 rfl) rfl
theorem q1898 : (Jvm.Cond.lays "ElephantEdgeModel" "ElephantEdgeModel" "pathMany" "I") ∈ lw_all := lw_g (lw_at lw_m8 108 rfl) rfl
theorem q1899 : (Jvm.Cond.soleField "ElephantEdgeModel" "pathMany") ∈ lw_all := lw_g (lw_at lw_m8 109 rfl) rfl
theorem q1900 : (Jvm.Cond.lays "ElephantEdgeModel" "ElephantEdgeModel" "watches" "I") ∈ lw_all := lw_g (lw_at lw_m8 110 rfl) rfl
theorem q1901 : (Jvm.Cond.soleField "ElephantEdgeModel" "watches") ∈ lw_all := lw_g (lw_at lw_m8 111 rfl) rfl
theorem q1902 : (Jvm.Cond.lays "ElephantEdgeModel" "ElephantEdgeModel" "extras" "I") ∈ lw_all := lw_g (lw_at lw_m8 112 rfl) rfl
theorem q1903 : (Jvm.Cond.soleField "ElephantEdgeModel" "extras") ∈ lw_all := lw_g (lw_at lw_m8 113 rfl) rfl
theorem q1904 : (Jvm.Cond.lays "ElephantEdgeModel" "ElephantEdgeModel" "total" "I") ∈ lw_all := lw_g (lw_at lw_m8 114 rfl) rfl
theorem q1905 : (Jvm.Cond.soleField "ElephantEdgeModel" "total") ∈ lw_all := lw_g (lw_at lw_m8 115 rfl) rfl
theorem q1906 : (Jvm.Cond.laysFinal "ElephantEdgeModel" "ElephantEdgeModel" "watchFamily" "[I") ∈ lw_all := lw_g (lw_at lw_m8 116 rfl) rfl
theorem q1907 : (Jvm.Cond.soleField "ElephantEdgeModel" "watchFamily") ∈ lw_all := lw_g (lw_at lw_m8 117 rfl) rfl
theorem q1908 : (Jvm.Cond.laysFinal "ElephantEdgeModel" "ElephantEdgeModel" "watchCell" "[I") ∈ lw_all := lw_g (lw_at lw_m8 118 rfl) rfl
theorem q1909 : (Jvm.Cond.soleField "ElephantEdgeModel" "watchCell") ∈ lw_all := lw_g (lw_at lw_m8 119 rfl) rfl
theorem q1910 : (Jvm.Cond.laysFinal "ElephantEdgeModel" "ElephantEdgeModel" "extra" "[I") ∈ lw_all := lw_g (lw_at lw_m8 120 rfl) rfl
theorem q1911 : (Jvm.Cond.soleField "ElephantEdgeModel" "extra") ∈ lw_all := lw_g (lw_at lw_m8 121 rfl) rfl
theorem q1912 : (Jvm.Cond.laysFinal "ElephantEdgeModel" "ElephantEdgeModel" "lost" "[I") ∈ lw_all := lw_g (lw_at lw_m8 122 rfl) rfl
theorem q1913 : (Jvm.Cond.soleField "ElephantEdgeModel" "lost") ∈ lw_all := lw_g (lw_at lw_m8 123 rfl) rfl
theorem q1914 : (Jvm.Cond.lays "ElephantEdgeModel" "ElephantEdgeModel" "twelveMany" "I") ∈ lw_all := lw_g (lw_at lw_m8 124 rfl) rfl
theorem q1915 : (Jvm.Cond.soleField "ElephantEdgeModel" "twelveMany") ∈ lw_all := lw_g (lw_at lw_m8 125 rfl) rfl
theorem q1916 : (Jvm.Cond.lays "ElephantEdgeModel" "ElephantEdgeModel" "builtCell" "I") ∈ lw_all := lw_g (lw_at lw_m8 126 rfl) rfl
theorem q1917 : (Jvm.Cond.soleField "ElephantEdgeModel" "builtCell") ∈ lw_all := lw_g (lw_at lw_m8 127 rfl) rfl
theorem q1918 : (Jvm.Cond.lays "ElephantEdgeModel" "ElephantEdgeModel" "builtOther" "I") ∈ lw_all := lw_g (lw_at lw_m8 128 rfl) rfl
theorem q1919 : (Jvm.Cond.soleField "ElephantEdgeModel" "builtOther") ∈ lw_all := lw_g (lw_at lw_m8 129 rfl) rfl
theorem q1920 : (Jvm.Cond.lays "ElephantEdgeModel" "ElephantEdgeModel" "builtLoss" "I") ∈ lw_all := lw_g (lw_at lw_m8 130 rfl) rfl
theorem q1921 : (Jvm.Cond.soleField "ElephantEdgeModel" "builtLoss") ∈ lw_all := lw_g (lw_at lw_m8 131 rfl) rfl
theorem q1922 : (Jvm.Cond.laysFinal "ElephantEdgeModel" "ElephantEdgeModel" "twelve" "[I") ∈ lw_all := lw_g (lw_at lw_m8 132 rfl) rfl
theorem q1923 : (Jvm.Cond.soleField "ElephantEdgeModel" "twelve") ∈ lw_all := lw_g (lw_at lw_m8 133 rfl) rfl
theorem q1924 : (Jvm.Cond.lays "ElephantEdgeModel" "ElephantEdgeModel" "lastWatch" "I") ∈ lw_all := lw_g (lw_at lw_m8 134 rfl) rfl
theorem q1925 : (Jvm.Cond.soleField "ElephantEdgeModel" "lastWatch") ∈ lw_all := lw_g (lw_at lw_m8 135 rfl) rfl
theorem q1926 : (Jvm.Cond.lays "ElephantEdgeModel" "ElephantEdgeModel" "claims" "I") ∈ lw_all := lw_g (lw_at lw_m8 136 rfl) rfl
theorem q1927 : (Jvm.Cond.soleField "ElephantEdgeModel" "claims") ∈ lw_all := lw_g (lw_at lw_m8 137 rfl) rfl
theorem q1928 : (Jvm.Cond.lays "ElephantEdgeModel" "ElephantEdgeModel" "found" "I") ∈ lw_all := lw_g (lw_at lw_m8 138 rfl) rfl
theorem q1929 : (Jvm.Cond.soleField "ElephantEdgeModel" "found") ∈ lw_all := lw_g (lw_at lw_m8 139 rfl) rfl
theorem q1930 : (Jvm.Cond.laysFinal "ElephantEdgeModel" "ElephantEdgeModel" "debt" "[I") ∈ lw_all := lw_g (lw_at lw_m8 140 rfl) rfl
theorem q1931 : (Jvm.Cond.soleField "ElephantEdgeModel" "debt") ∈ lw_all := lw_g (lw_at lw_m8 141 rfl) rfl
theorem q1932 : (Jvm.Cond.laysFinal "ElephantEdgeModel" "ElephantEdgeModel" "watched" "[I") ∈ lw_all := lw_g (lw_at lw_m8 142 rfl) rfl
theorem q1933 : (Jvm.Cond.soleField "ElephantEdgeModel" "watched") ∈ lw_all := lw_g (lw_at lw_m8 143 rfl) rfl
theorem q1934 : (Jvm.Cond.laysFinal "ElephantEdgeModel" "ElephantEdgeModel" "claimFamily" "[I") ∈ lw_all := lw_g (lw_at lw_m8 144 rfl) rfl
theorem q1935 : (Jvm.Cond.soleField "ElephantEdgeModel" "claimFamily") ∈ lw_all := lw_g (lw_at lw_m8 145 rfl) rfl
theorem q1936 : (Jvm.Cond.laysFinal "ElephantEdgeModel" "ElephantEdgeModel" "claimNight" "[I") ∈ lw_all := lw_g (lw_at lw_m8 146 rfl) rfl
theorem q1937 : (Jvm.Cond.soleField "ElephantEdgeModel" "claimNight") ∈ lw_all := lw_g (lw_at lw_m8 147 rfl) rfl
theorem q1938 : (Jvm.Cond.laysFinal "ElephantEdgeModel" "ElephantEdgeModel" "claimPaid" "[I") ∈ lw_all := lw_g (lw_at lw_m8 148 rfl) rfl
theorem q1939 : (Jvm.Cond.soleField "ElephantEdgeModel" "claimPaid") ∈ lw_all := lw_g (lw_at lw_m8 149 rfl) rfl
theorem q1940 : (Jvm.Cond.lays "ElephantEdgeModel" "ElephantEdgeModel" "postLoss" "I") ∈ lw_all := lw_g (lw_at lw_m8 150 rfl) rfl
theorem q1941 : (Jvm.Cond.soleField "ElephantEdgeModel" "postLoss") ∈ lw_all := lw_g (lw_at lw_m8 151 rfl) rfl
theorem q1942 : (Jvm.Cond.lays "ElephantEdgeModel" "ElephantEdgeModel" "hasPosts" "Z") ∈ lw_all := lw_g (lw_at lw_m8 152 rfl) rfl
theorem q1943 : (Jvm.Cond.soleField "ElephantEdgeModel" "hasPosts") ∈ lw_all := lw_g (lw_at lw_m8 153 rfl) rfl
theorem q1944 : (Jvm.Cond.laysFinal "ElephantEdgeModel" "ElephantEdgeModel" "bestPost" "[I") ∈ lw_all := lw_g (lw_at lw_m8 154 rfl) rfl
theorem q1945 : (Jvm.Cond.soleField "ElephantEdgeModel" "bestPost") ∈ lw_all := lw_g (lw_at lw_m8 155 rfl) rfl
theorem q1946 : (Jvm.Cond.lays "ElephantEdgeModel" "ElephantEdgeModel" "joins" "I") ∈ lw_all := lw_g (lw_at lw_m8 156 rfl) rfl
theorem q1947 : (Jvm.Cond.soleField "ElephantEdgeModel" "joins") ∈ lw_all := lw_g (lw_at lw_m8 157 rfl) rfl
theorem q1948 : (Jvm.Cond.lays "ElephantEdgeModel" "ElephantEdgeModel" "rotaMost" "I") ∈ lw_all := lw_g (lw_at lw_m8 158 rfl) rfl
theorem q1949 : (Jvm.Cond.soleField "ElephantEdgeModel" "rotaMost") ∈ lw_all := lw_g (lw_at lw_m8 159 rfl) rfl
theorem q1950 : (Jvm.Cond.lays "ElephantEdgeModel" "ElephantEdgeModel" "rotaSquares" "I") ∈ lw_all := lw_g (lw_at lw_m8 160 rfl) rfl
theorem q1951 : (Jvm.Cond.soleField "ElephantEdgeModel" "rotaSquares") ∈ lw_all := lw_g (lw_at lw_m8 161 rfl) rfl
theorem q1952 : (Jvm.Cond.lays "ElephantEdgeModel" "ElephantEdgeModel" "hasRota" "Z") ∈ lw_all := lw_g (lw_at lw_m8 162 rfl) rfl
theorem q1953 : (Jvm.Cond.soleField "ElephantEdgeModel" "hasRota") ∈ lw_all := lw_g (lw_at lw_m8 163 rfl) rfl
theorem q1954 : (Jvm.Cond.laysFinal "ElephantEdgeModel" "ElephantEdgeModel" "isAway" "[Z") ∈ lw_all := lw_g (lw_at lw_m8 164 rfl) rfl
theorem q1955 : (Jvm.Cond.soleField "ElephantEdgeModel" "isAway") ∈ lw_all := lw_g (lw_at lw_m8 165 rfl) rfl
theorem q1956 : (Jvm.Cond.laysFinal "ElephantEdgeModel" "ElephantEdgeModel" "load" "[I") ∈ lw_all := lw_g (lw_at lw_m8 166 rfl) rfl
theorem q1957 : (Jvm.Cond.soleField "ElephantEdgeModel" "load") ∈ lw_all := lw_g (lw_at lw_m8 167 rfl) rfl
theorem q1958 : (Jvm.Cond.laysFinal "ElephantEdgeModel" "ElephantEdgeModel" "rotaSet" "[I") ∈ lw_all := lw_g (lw_at lw_m8 168 rfl) rfl
theorem q1959 : (Jvm.Cond.soleField "ElephantEdgeModel" "rotaSet") ∈ lw_all := lw_g (lw_at lw_m8 169 rfl) rfl
theorem q1960 : (Jvm.Cond.laysFinal "ElephantEdgeModel" "ElephantEdgeModel" "bestRota" "[I") ∈ lw_all := lw_g (lw_at lw_m8 170 rfl) rfl
theorem q1961 : (Jvm.Cond.soleField "ElephantEdgeModel" "bestRota") ∈ lw_all := lw_g (lw_at lw_m8 171 rfl) rfl
theorem q1962 : (Jvm.Cond.lays "ElephantEdgeModel" "ElephantEdgeModel" "rows" "I") ∈ lw_all := lw_g (lw_at lw_m8 172 rfl) rfl
theorem q1963 : (Jvm.Cond.soleField "ElephantEdgeModel" "rows") ∈ lw_all := lw_g (lw_at lw_m8 173 rfl) rfl
theorem q1964 : (Jvm.Cond.lays "ElephantEdgeModel" "ElephantEdgeModel" "fund" "I") ∈ lw_all := lw_g (lw_at lw_m8 174 rfl) rfl
theorem q1965 : (Jvm.Cond.soleField "ElephantEdgeModel" "fund") ∈ lw_all := lw_g (lw_at lw_m8 175 rfl) rfl
theorem q1966 : (Jvm.Cond.laysFinal "ElephantEdgeModel" "ElephantEdgeModel" "rowClaim" "[I") ∈ lw_all := lw_g (lw_at lw_m8 176 rfl) rfl
theorem q1967 : (Jvm.Cond.soleField "ElephantEdgeModel" "rowClaim") ∈ lw_all := lw_g (lw_at lw_m8 177 rfl) rfl
theorem q1968 : (Jvm.Cond.laysFinal "ElephantEdgeModel" "ElephantEdgeModel" "rowNight" "[I") ∈ lw_all := lw_g (lw_at lw_m8 178 rfl) rfl
theorem q1969 : (Jvm.Cond.soleField "ElephantEdgeModel" "rowNight") ∈ lw_all := lw_g (lw_at lw_m8 179 rfl) rfl
theorem q1970 : (Jvm.Cond.laysFinal "ElephantEdgeModel" "ElephantEdgeModel" "rowStalks" "[I") ∈ lw_all := lw_g (lw_at lw_m8 180 rfl) rfl
theorem q1971 : (Jvm.Cond.soleField "ElephantEdgeModel" "rowStalks") ∈ lw_all := lw_g (lw_at lw_m8 181 rfl) rfl
theorem q1972 : (Jvm.Cond.laysFinal "ElephantEdgeModel" "ElephantEdgeModel" "stack" "[I") ∈ lw_all := lw_g (lw_at lw_m8 182 rfl) rfl
theorem q1973 : (Jvm.Cond.soleField "ElephantEdgeModel" "stack") ∈ lw_all := lw_g (lw_at lw_m8 183 rfl) rfl
theorem q1974 : (Jvm.Cond.laysFinal "ElephantEdgeModel" "ElephantEdgeModel" "fixMany" "[I") ∈ lw_all := lw_g (lw_at lw_m8 184 rfl) rfl
theorem q1975 : (Jvm.Cond.soleField "ElephantEdgeModel" "fixMany") ∈ lw_all := lw_g (lw_at lw_m8 185 rfl) rfl
theorem q1976 : (Jvm.Cond.laysFinal "ElephantEdgeModel" "ElephantEdgeModel" "fixHour" "[I") ∈ lw_all := lw_g (lw_at lw_m8 186 rfl) rfl
theorem q1977 : (Jvm.Cond.soleField "ElephantEdgeModel" "fixHour") ∈ lw_all := lw_g (lw_at lw_m8 187 rfl) rfl
theorem q1978 : (Jvm.Cond.laysFinal "ElephantEdgeModel" "ElephantEdgeModel" "fixCell" "[I") ∈ lw_all := lw_g (lw_at lw_m8 188 rfl) rfl
theorem q1979 : (Jvm.Cond.soleField "ElephantEdgeModel" "fixCell") ∈ lw_all := lw_g (lw_at lw_m8 189 rfl) rfl
theorem q1980 : (Jvm.Cond.laysFinal "ElephantEdgeModel" "ElephantEdgeModel" "steps" "[I") ∈ lw_all := lw_g (lw_at lw_m8 190 rfl) rfl
theorem q1981 : (Jvm.Cond.soleField "ElephantEdgeModel" "steps") ∈ lw_all := lw_g (lw_at lw_m8 191 rfl) rfl
theorem q1982 : (Jvm.Cond.laysFinal "ElephantEdgeModel" "ElephantEdgeModel" "stepsOn" "[I") ∈ lw_all := lw_g (lw_at lw_m8 192 rfl) rfl
theorem q1983 : (Jvm.Cond.soleField "ElephantEdgeModel" "stepsOn") ∈ lw_all := lw_g (lw_at lw_m8 193 rfl) rfl
theorem q1984 : (Jvm.Cond.laysFinal "ElephantEdgeModel" "ElephantEdgeModel" "mayBeAt" "[Z") ∈ lw_all := lw_g (lw_at lw_m8 194 rfl) rfl
theorem q1985 : (Jvm.Cond.soleField "ElephantEdgeModel" "mayBeAt") ∈ lw_all := lw_g (lw_at lw_m8 195 rfl) rfl
theorem q1986 : (Jvm.Cond.lays "ElephantEdgeModel" "ElephantEdgeModel" "wires" "I") ∈ lw_all := lw_g (lw_at lw_m8 196 rfl) rfl
theorem q1987 : (Jvm.Cond.soleField "ElephantEdgeModel" "wires") ∈ lw_all := lw_g (lw_at lw_m8 197 rfl) rfl
theorem q1988 : (Jvm.Cond.lays "ElephantEdgeModel" "ElephantEdgeModel" "winds" "I") ∈ lw_all := lw_g (lw_at lw_m8 198 rfl) rfl
theorem q1989 : (Jvm.Cond.soleField "ElephantEdgeModel" "winds") ∈ lw_all := lw_g (lw_at lw_m8 199 rfl) rfl
theorem q1990 : (Jvm.Cond.lays "ElephantEdgeModel" "ElephantEdgeModel" "trips" "I") ∈ lw_all := lw_g (lw_at lw_m8 200 rfl) rfl
theorem q1991 : (Jvm.Cond.soleField "ElephantEdgeModel" "trips") ∈ lw_all := lw_g (lw_at lw_m8 201 rfl) rfl
theorem q1992 : (Jvm.Cond.laysFinal "ElephantEdgeModel" "ElephantEdgeModel" "wireCell" "[I") ∈ lw_all := lw_g (lw_at lw_m8 202 rfl) rfl
theorem q1993 : (Jvm.Cond.soleField "ElephantEdgeModel" "wireCell") ∈ lw_all := lw_g (lw_at lw_m8 203 rfl) rfl
theorem q1994 : (Jvm.Cond.laysFinal "ElephantEdgeModel" "ElephantEdgeModel" "wireOther" "[I") ∈ lw_all := lw_g (lw_at lw_m8 204 rfl) rfl
theorem q1995 : (Jvm.Cond.soleField "ElephantEdgeModel" "wireOther") ∈ lw_all := lw_g (lw_at lw_m8 205 rfl) rfl
theorem q1996 : (Jvm.Cond.laysFinal "ElephantEdgeModel" "ElephantEdgeModel" "weak" "[I") ∈ lw_all := lw_g (lw_at lw_m8 206 rfl) rfl
theorem q1997 : (Jvm.Cond.soleField "ElephantEdgeModel" "weak") ∈ lw_all := lw_g (lw_at lw_m8 207 rfl) rfl
theorem q1998 : (Jvm.Cond.laysFinal "ElephantEdgeModel" "ElephantEdgeModel" "windHour" "[I") ∈ lw_all := lw_g (lw_at lw_m8 208 rfl) rfl
theorem q1999 : (Jvm.Cond.soleField "ElephantEdgeModel" "windHour") ∈ lw_all := lw_g (lw_at lw_m8 209 rfl) rfl
theorem q2000 : (Jvm.Cond.laysFinal "ElephantEdgeModel" "ElephantEdgeModel" "windForce" "[I") ∈ lw_all := lw_g (lw_at lw_m8 210 rfl) rfl
theorem q2001 : (Jvm.Cond.soleField "ElephantEdgeModel" "windForce") ∈ lw_all := lw_g (lw_at lw_m8 211 rfl) rfl
theorem q2002 : (Jvm.Cond.laysFinal "ElephantEdgeModel" "ElephantEdgeModel" "tripWire" "[I") ∈ lw_all := lw_g (lw_at lw_m8 212 rfl) rfl
theorem q2003 : (Jvm.Cond.soleField "ElephantEdgeModel" "tripWire") ∈ lw_all := lw_g (lw_at lw_m8 213 rfl) rfl
theorem q2004 : (Jvm.Cond.laysFinal "ElephantEdgeModel" "ElephantEdgeModel" "tripHour" "[I") ∈ lw_all := lw_g (lw_at lw_m8 214 rfl) rfl
theorem q2005 : (Jvm.Cond.soleField "ElephantEdgeModel" "tripHour") ∈ lw_all := lw_g (lw_at lw_m8 215 rfl) rfl
theorem q2006 : (Jvm.Cond.laysFinal "ElephantEdgeModel" "ElephantEdgeModel" "isBarred" "[Z") ∈ lw_all := lw_g (lw_at lw_m8 216 rfl) rfl
theorem q2007 : (Jvm.Cond.soleField "ElephantEdgeModel" "isBarred") ∈ lw_all := lw_g (lw_at lw_m8 217 rfl) rfl
theorem q2008 : (Jvm.Cond.laysFinal "ElephantEdgeModel" "ElephantEdgeModel" "isLeased" "[Z") ∈ lw_all := lw_g (lw_at lw_m8 218 rfl) rfl
theorem q2009 : (Jvm.Cond.soleField "ElephantEdgeModel" "isLeased") ∈ lw_all := lw_g (lw_at lw_m8 219 rfl) rfl
theorem q2010 : (Jvm.Cond.laysFinal "ElephantEdgeModel" "ElephantEdgeModel" "rent" "[I") ∈ lw_all := lw_g (lw_at lw_m8 220 rfl) rfl
theorem q2011 : (Jvm.Cond.soleField "ElephantEdgeModel" "rent") ∈ lw_all := lw_g (lw_at lw_m8 221 rfl) rfl
theorem q2012 : (Jvm.Cond.laysFinal "ElephantEdgeModel" "ElephantEdgeModel" "rest" "[I") ∈ lw_all := lw_g (lw_at lw_m8 222 rfl) rfl
theorem q2013 : (Jvm.Cond.soleField "ElephantEdgeModel" "rest") ∈ lw_all := lw_g (lw_at lw_m8 223 rfl) rfl
theorem q2014 : (Jvm.Cond.superclass "ElephantEdgeModel" "java/lang/Object") ∈ lw_all := lw_g (lw_at lw_m8 224 rfl) rfl
theorem q2016 : (Jvm.Cond.instanceMethod ({ cls := "ElephantEdgeModel", name := "land", desc := "(II)I" } : Jvm.MethodName)) ∈ lw_all := lw_g (lw_at lw_m8 226 rfl) rfl
theorem q2017 : (Jvm.Cond.selects "ElephantEdgeModel" ({ cls := "ElephantEdgeModel", name := "land", desc := "(II)I" } : Jvm.MethodName) ({ cls := "ElephantEdgeModel", name := "land", desc := "(II)I" } : Jvm.MethodName)) ∈ lw_all := lw_g (lw_at lw_m8 227 rfl) rfl
theorem q2018 : (Jvm.Cond.code ({ cls := "ElephantEdgeModel", name := "land", desc := "(II)I" } : Jvm.MethodName) prog_23_method_9_code (4 : Nat) (Option.some Jvm.ClassFile.FieldType.int)) ∈ lw_all := lw_g (lw_at lw_m8 228 rfl) rfl
theorem q2019 : (Jvm.Cond.methodLink "ElephantEdgeModel" (218 : Nat) ({ cls := "ElephantEdgeModel", name := "isCell", desc := "(I)Z" } : Jvm.MethodName)) ∈ lw_all := lw_g (lw_at lw_m8 229 rfl) rfl
theorem q2020 : (Jvm.Cond.privateMethod ({ cls := "ElephantEdgeModel", name := "isCell", desc := "(I)Z" } : Jvm.MethodName)) ∈ lw_tbl := lw_at lw_m8 230 rfl
theorem q2021 : (Jvm.Cond.instanceMethod ({ cls := "ElephantEdgeModel", name := "isCell", desc := "(I)Z" } : Jvm.MethodName)) ∈ lw_all := lw_g (lw_at lw_m8 231 rfl) rfl
theorem q2022 : (Jvm.Cond.code ({ cls := "ElephantEdgeModel", name := "isCell", desc := "(I)Z" } : Jvm.MethodName) prog_23_method_5_code (2 : Nat) (Option.some Jvm.ClassFile.FieldType.boolean)) ∈ lw_all := lw_g (lw_at lw_m8 232 rfl) rfl
theorem q2023 : (Jvm.Cond.methodLink "ElephantEdgeModel" (210 : Nat) ({ cls := "ElephantEdgeModel", name := "within", desc := "(III)Z" } : Jvm.MethodName)) ∈ lw_all := lw_g (lw_at lw_m8 233 rfl) rfl
theorem q2024 : (Jvm.Cond.static ({ cls := "ElephantEdgeModel", name := "within", desc := "(III)Z" } : Jvm.MethodName)) ∈ lw_all := lw_g (lw_at lw_m8 234 rfl) rfl
theorem q2025 : (Jvm.Cond.code ({ cls := "ElephantEdgeModel", name := "within", desc := "(III)Z" } : Jvm.MethodName) prog_23_method_3_code (3 : Nat) (Option.some Jvm.ClassFile.FieldType.boolean)) ∈ lw_all := lw_g (lw_at lw_m8 235 rfl) rfl
theorem q2026 : (Jvm.Cond.methodLink "ElephantEdgeModel" (214 : Nat) ({ cls := "ElephantEdgeModel", name := "may", desc := "(ZI)Z" } : Jvm.MethodName)) ∈ lw_all := lw_g (lw_at lw_m8 236 rfl) rfl
theorem q2027 : (Jvm.Cond.privateMethod ({ cls := "ElephantEdgeModel", name := "may", desc := "(ZI)Z" } : Jvm.MethodName)) ∈ lw_tbl := lw_at lw_m8 237 rfl
theorem q2028 : (Jvm.Cond.instanceMethod ({ cls := "ElephantEdgeModel", name := "may", desc := "(ZI)Z" } : Jvm.MethodName)) ∈ lw_all := lw_g (lw_at lw_m8 238 rfl) rfl
theorem q2029 : (Jvm.Cond.code ({ cls := "ElephantEdgeModel", name := "may", desc := "(ZI)Z" } : Jvm.MethodName) prog_23_method_2_code (3 : Nat) (Option.some Jvm.ClassFile.FieldType.boolean)) ∈ lw_all := lw_g (lw_at lw_m8 239 rfl) rfl
theorem q2030 : (Jvm.Cond.methodLink "ElephantEdgeModel" (222 : Nat) ({ cls := "ElephantEdgeModel", name := "isTaken", desc := "(I)Z" } : Jvm.MethodName)) ∈ lw_all := lw_g (lw_at lw_m9 0 rfl) rfl
theorem q2031 : (Jvm.Cond.privateMethod ({ cls := "ElephantEdgeModel", name := "isTaken", desc := "(I)Z" } : Jvm.MethodName)) ∈ lw_tbl := lw_at lw_m9 1 rfl
theorem q2032 : (Jvm.Cond.instanceMethod ({ cls := "ElephantEdgeModel", name := "isTaken", desc := "(I)Z" } : Jvm.MethodName)) ∈ lw_all := lw_g (lw_at lw_m9 2 rfl) rfl
theorem q2033 : (Jvm.Cond.code ({ cls := "ElephantEdgeModel", name := "isTaken", desc := "(I)Z" } : Jvm.MethodName) prog_23_method_10_code (4 : Nat) (Option.some Jvm.ClassFile.FieldType.boolean)) ∈ lw_all := lw_g (lw_at lw_m9 3 rfl) rfl
theorem q2035 : (Jvm.Cond.instanceMethod ({ cls := "ElephantEdgeModel", name := "field", desc := "(IIII)I" } : Jvm.MethodName)) ∈ lw_all := lw_g (lw_at lw_m9 5 rfl) rfl
theorem q2036 : (Jvm.Cond.selects "ElephantEdgeModel" ({ cls := "ElephantEdgeModel", name := "field", desc := "(IIII)I" } : Jvm.MethodName) ({ cls := "ElephantEdgeModel", name := "field", desc := "(IIII)I" } : Jvm.MethodName)) ∈ lw_all := lw_g (lw_at lw_m9 6 rfl) rfl
theorem q2037 : (Jvm.Cond.code ({ cls := "ElephantEdgeModel", name := "field", desc := "(IIII)I" } : Jvm.MethodName) prog_23_method_11_code (6 : Nat) (Option.some Jvm.ClassFile.FieldType.int)) ∈ lw_all := lw_g (lw_at lw_m9 7 rfl) rfl
theorem q2039 : (Jvm.Cond.instanceMethod ({ cls := "ElephantEdgeModel", name := "stalks", desc := "(I)I" } : Jvm.MethodName)) ∈ lw_all := lw_g (lw_at lw_m9 9 rfl) rfl
theorem q2040 : (Jvm.Cond.selects "ElephantEdgeModel" ({ cls := "ElephantEdgeModel", name := "stalks", desc := "(I)I" } : Jvm.MethodName) ({ cls := "ElephantEdgeModel", name := "stalks", desc := "(I)I" } : Jvm.MethodName)) ∈ lw_all := lw_g (lw_at lw_m9 10 rfl) rfl
theorem q2041 : (Jvm.Cond.code ({ cls := "ElephantEdgeModel", name := "stalks", desc := "(I)I" } : Jvm.MethodName) prog_23_method_12_code (2 : Nat) (Option.some Jvm.ClassFile.FieldType.int)) ∈ lw_all := lw_g (lw_at lw_m9 11 rfl) rfl
theorem q2043 : (Jvm.Cond.instanceMethod ({ cls := "ElephantEdgeModel", name := "village", desc := "(II)I" } : Jvm.MethodName)) ∈ lw_all := lw_g (lw_at lw_m9 13 rfl) rfl
theorem q2044 : (Jvm.Cond.selects "ElephantEdgeModel" ({ cls := "ElephantEdgeModel", name := "village", desc := "(II)I" } : Jvm.MethodName) ({ cls := "ElephantEdgeModel", name := "village", desc := "(II)I" } : Jvm.MethodName)) ∈ lw_all := lw_g (lw_at lw_m9 14 rfl) rfl
theorem q2045 : (Jvm.Cond.code ({ cls := "ElephantEdgeModel", name := "village", desc := "(II)I" } : Jvm.MethodName) prog_23_method_14_code (4 : Nat) (Option.some Jvm.ClassFile.FieldType.int)) ∈ lw_all := lw_g (lw_at lw_m9 15 rfl) rfl
theorem q2047 : (Jvm.Cond.instanceMethod ({ cls := "ElephantEdgeModel", name := "fence", desc := "(IIII)I" } : Jvm.MethodName)) ∈ lw_all := lw_g (lw_at lw_m9 17 rfl) rfl
theorem q2048 : (Jvm.Cond.selects "ElephantEdgeModel" ({ cls := "ElephantEdgeModel", name := "fence", desc := "(IIII)I" } : Jvm.MethodName) ({ cls := "ElephantEdgeModel", name := "fence", desc := "(IIII)I" } : Jvm.MethodName)) ∈ lw_all := lw_g (lw_at lw_m9 18 rfl) rfl
theorem q2049 : (Jvm.Cond.code ({ cls := "ElephantEdgeModel", name := "fence", desc := "(IIII)I" } : Jvm.MethodName) prog_23_method_15_code (7 : Nat) (Option.some Jvm.ClassFile.FieldType.int)) ∈ lw_all := lw_g (lw_at lw_m9 19 rfl) rfl
theorem q2050 : (Jvm.Cond.methodLink "ElephantEdgeModel" (228 : Nat) ({ cls := "ElephantEdgeModel", name := "areNeighbours", desc := "(II)Z" } : Jvm.MethodName)) ∈ lw_all := lw_g (lw_at lw_m9 20 rfl) rfl
theorem q2051 : (Jvm.Cond.static ({ cls := "ElephantEdgeModel", name := "areNeighbours", desc := "(II)Z" } : Jvm.MethodName)) ∈ lw_all := lw_g (lw_at lw_m9 21 rfl) rfl
theorem q2052 : (Jvm.Cond.code ({ cls := "ElephantEdgeModel", name := "areNeighbours", desc := "(II)Z" } : Jvm.MethodName) prog_23_method_6_code (4 : Nat) (Option.some Jvm.ClassFile.FieldType.boolean)) ∈ lw_all := lw_g (lw_at lw_m9 22 rfl) rfl
theorem q2053 : (Jvm.Cond.methodLink "ElephantEdgeModel" (232 : Nat) ({ cls := "ElephantEdgeModel", name := "edge", desc := "(II)I" } : Jvm.MethodName)) ∈ lw_all := lw_g (lw_at lw_m9 23 rfl) rfl
theorem q2054 : (Jvm.Cond.static ({ cls := "ElephantEdgeModel", name := "edge", desc := "(II)I" } : Jvm.MethodName)) ∈ lw_all := lw_g (lw_at lw_m9 24 rfl) rfl
theorem q2055 : (Jvm.Cond.code ({ cls := "ElephantEdgeModel", name := "edge", desc := "(II)I" } : Jvm.MethodName) prog_23_method_7_code (3 : Nat) (Option.some Jvm.ClassFile.FieldType.int)) ∈ lw_all := lw_g (lw_at lw_m9 25 rfl) rfl
theorem q2057 : (Jvm.Cond.instanceMethod ({ cls := "ElephantEdgeModel", name := "fenced", desc := "(II)I" } : Jvm.MethodName)) ∈ lw_all := lw_g (lw_at lw_m9 27 rfl) rfl
theorem q2058 : (Jvm.Cond.selects "ElephantEdgeModel" ({ cls := "ElephantEdgeModel", name := "fenced", desc := "(II)I" } : Jvm.MethodName) ({ cls := "ElephantEdgeModel", name := "fenced", desc := "(II)I" } : Jvm.MethodName)) ∈ lw_all := lw_g (lw_at lw_m9 28 rfl) rfl
theorem q2059 : (Jvm.Cond.code ({ cls := "ElephantEdgeModel", name := "fenced", desc := "(II)I" } : Jvm.MethodName) prog_23_method_16_code (3 : Nat) (Option.some Jvm.ClassFile.FieldType.int)) ∈ lw_all := lw_g (lw_at lw_m9 29 rfl) rfl
theorem q2061 : (Jvm.Cond.instanceMethod ({ cls := "ElephantEdgeModel", name := "fear", desc := "(I)I" } : Jvm.MethodName)) ∈ lw_all := lw_g (lw_at lw_m9 31 rfl) rfl
theorem q2062 : (Jvm.Cond.selects "ElephantEdgeModel" ({ cls := "ElephantEdgeModel", name := "fear", desc := "(I)I" } : Jvm.MethodName) ({ cls := "ElephantEdgeModel", name := "fear", desc := "(I)I" } : Jvm.MethodName)) ∈ lw_all := lw_g (lw_at lw_m9 32 rfl) rfl
theorem q2063 : (Jvm.Cond.code ({ cls := "ElephantEdgeModel", name := "fear", desc := "(I)I" } : Jvm.MethodName) prog_23_method_17_code (2 : Nat) (Option.some Jvm.ClassFile.FieldType.int)) ∈ lw_all := lw_g (lw_at lw_m9 33 rfl) rfl
theorem q2065 : (Jvm.Cond.instanceMethod ({ cls := "ElephantEdgeModel", name := "feed", desc := "(IIIII)I" } : Jvm.MethodName)) ∈ lw_all := lw_g (lw_at lw_m9 35 rfl) rfl
theorem q2066 : (Jvm.Cond.selects "ElephantEdgeModel" ({ cls := "ElephantEdgeModel", name := "feed", desc := "(IIIII)I" } : Jvm.MethodName) ({ cls := "ElephantEdgeModel", name := "feed", desc := "(IIIII)I" } : Jvm.MethodName)) ∈ lw_all := lw_g (lw_at lw_m9 36 rfl) rfl
theorem q2067 : (Jvm.Cond.code ({ cls := "ElephantEdgeModel", name := "feed", desc := "(IIIII)I" } : Jvm.MethodName) prog_23_method_21_code (8 : Nat) (Option.some Jvm.ClassFile.FieldType.int)) ∈ lw_all := lw_g (lw_at lw_m9 37 rfl) rfl
theorem q2069 : (Jvm.Cond.instanceMethod ({ cls := "ElephantEdgeModel", name := "rule", desc := "(I)I" } : Jvm.MethodName)) ∈ lw_all := lw_g (lw_at lw_m9 39 rfl) rfl
theorem q2070 : (Jvm.Cond.selects "ElephantEdgeModel" ({ cls := "ElephantEdgeModel", name := "rule", desc := "(I)I" } : Jvm.MethodName) ({ cls := "ElephantEdgeModel", name := "rule", desc := "(I)I" } : Jvm.MethodName)) ∈ lw_all := lw_g (lw_at lw_m9 40 rfl) rfl
theorem q2071 : (Jvm.Cond.code ({ cls := "ElephantEdgeModel", name := "rule", desc := "(I)I" } : Jvm.MethodName) prog_23_method_41_code (2 : Nat) (Option.some Jvm.ClassFile.FieldType.int)) ∈ lw_all := lw_g (lw_at lw_m9 41 rfl) rfl
theorem q2072 : (Jvm.Cond.methodLink "ElephantEdgeModel" (297 : Nat) ({ cls := "ElephantEdgeModel", name := "fine", desc := "()Z" } : Jvm.MethodName)) ∈ lw_all := lw_g (lw_at lw_m9 42 rfl) rfl
theorem q2073 : (Jvm.Cond.privateMethod ({ cls := "ElephantEdgeModel", name := "fine", desc := "()Z" } : Jvm.MethodName)) ∈ lw_tbl := lw_at lw_m9 43 rfl
theorem q2074 : (Jvm.Cond.instanceMethod ({ cls := "ElephantEdgeModel", name := "fine", desc := "()Z" } : Jvm.MethodName)) ∈ lw_all := lw_g (lw_at lw_m9 44 rfl) rfl
theorem q2075 : (Jvm.Cond.code ({ cls := "ElephantEdgeModel", name := "fine", desc := "()Z" } : Jvm.MethodName) prog_23_method_22_code (1 : Nat) (Option.some Jvm.ClassFile.FieldType.boolean)) ∈ lw_all := lw_g (lw_at lw_m9 45 rfl) rfl
theorem q2076 : (Jvm.Cond.methodLink "ElephantEdgeModel" (369 : Nat) ({ cls := "ElephantEdgeModel", name := "isMore", desc := "()Z" } : Jvm.MethodName)) ∈ lw_all := lw_g (lw_at lw_m9 46 rfl) rfl
theorem q2077 : (Jvm.Cond.privateMethod ({ cls := "ElephantEdgeModel", name := "isMore", desc := "()Z" } : Jvm.MethodName)) ∈ lw_tbl := lw_at lw_m9 47 rfl
theorem q2078 : (Jvm.Cond.instanceMethod ({ cls := "ElephantEdgeModel", name := "isMore", desc := "()Z" } : Jvm.MethodName)) ∈ lw_all := lw_g (lw_at lw_m9 48 rfl) rfl
theorem q2079 : (Jvm.Cond.code ({ cls := "ElephantEdgeModel", name := "isMore", desc := "()Z" } : Jvm.MethodName) prog_23_method_42_code (1 : Nat) (Option.some Jvm.ClassFile.FieldType.boolean)) ∈ lw_all := lw_g (lw_at lw_m9 49 rfl) rfl
theorem q2080 : (Jvm.Cond.methodLink "ElephantEdgeModel" (290 : Nat) ({ cls := "ElephantEdgeModel", name := "here", desc := "()I" } : Jvm.MethodName)) ∈ lw_all := lw_g (lw_at lw_m9 50 rfl) rfl
theorem q2081 : (Jvm.Cond.privateMethod ({ cls := "ElephantEdgeModel", name := "here", desc := "()I" } : Jvm.MethodName)) ∈ lw_tbl := lw_at lw_m9 51 rfl
theorem q2082 : (Jvm.Cond.instanceMethod ({ cls := "ElephantEdgeModel", name := "here", desc := "()I" } : Jvm.MethodName)) ∈ lw_all := lw_g (lw_at lw_m9 52 rfl) rfl
theorem q2083 : (Jvm.Cond.code ({ cls := "ElephantEdgeModel", name := "here", desc := "()I" } : Jvm.MethodName) prog_23_method_24_code (1 : Nat) (Option.some Jvm.ClassFile.FieldType.int)) ∈ lw_all := lw_g (lw_at lw_m9 53 rfl) rfl
theorem q2084 : (Jvm.Cond.methodLink "ElephantEdgeModel" (372 : Nat) ({ cls := "ElephantEdgeModel", name := "readClause", desc := "()V" } : Jvm.MethodName)) ∈ lw_all := lw_g (lw_at lw_m9 54 rfl) rfl
theorem q2085 : (Jvm.Cond.privateMethod ({ cls := "ElephantEdgeModel", name := "readClause", desc := "()V" } : Jvm.MethodName)) ∈ lw_tbl := lw_at lw_m9 55 rfl
theorem q2086 : (Jvm.Cond.instanceMethod ({ cls := "ElephantEdgeModel", name := "readClause", desc := "()V" } : Jvm.MethodName)) ∈ lw_all := lw_g (lw_at lw_m9 56 rfl) rfl
theorem q2087 : (Jvm.Cond.code ({ cls := "ElephantEdgeModel", name := "readClause", desc := "()V" } : Jvm.MethodName) prog_23_method_40_code (3 : Nat) (Option.none : Option Jvm.ClassFile.FieldType)) ∈ lw_all := lw_g (lw_at lw_m9 57 rfl) rfl
theorem q2088 : (Jvm.Cond.methodLink "ElephantEdgeModel" (333 : Nat) ({ cls := "ElephantEdgeModel", name := "word", desc := "()I" } : Jvm.MethodName)) ∈ lw_all := lw_g (lw_at lw_m9 58 rfl) rfl
theorem q2089 : (Jvm.Cond.privateMethod ({ cls := "ElephantEdgeModel", name := "word", desc := "()I" } : Jvm.MethodName)) ∈ lw_tbl := lw_at lw_m9 59 rfl
theorem q2090 : (Jvm.Cond.instanceMethod ({ cls := "ElephantEdgeModel", name := "word", desc := "()I" } : Jvm.MethodName)) ∈ lw_all := lw_g (lw_at lw_m9 60 rfl) rfl
theorem q2091 : (Jvm.Cond.code ({ cls := "ElephantEdgeModel", name := "word", desc := "()I" } : Jvm.MethodName) prog_23_method_27_code (4 : Nat) (Option.some Jvm.ClassFile.FieldType.int)) ∈ lw_all := lw_g (lw_at lw_m9 61 rfl) rfl
theorem q2092 : (Jvm.Cond.methodLink "ElephantEdgeModel" (294 : Nat) ({ cls := "ElephantEdgeModel", name := "isSmall", desc := "(I)Z" } : Jvm.MethodName)) ∈ lw_all := lw_g (lw_at lw_m9 62 rfl) rfl
theorem q2093 : (Jvm.Cond.static ({ cls := "ElephantEdgeModel", name := "isSmall", desc := "(I)Z" } : Jvm.MethodName)) ∈ lw_all := lw_g (lw_at lw_m9 63 rfl) rfl
theorem q2094 : (Jvm.Cond.code ({ cls := "ElephantEdgeModel", name := "isSmall", desc := "(I)Z" } : Jvm.MethodName) prog_23_method_25_code (1 : Nat) (Option.some Jvm.ClassFile.FieldType.boolean)) ∈ lw_all := lw_g (lw_at lw_m9 64 rfl) rfl
theorem q2095 : (Jvm.Cond.constant "ElephantEdgeModel" (359 : Nat) (402789 : Int32)) ∈ lw_all := lw_g (lw_at lw_m9 65 rfl) rfl
theorem q2096 : (Jvm.Cond.constant "ElephantEdgeModel" (360 : Nat) (643248 : Int32)) ∈ lw_all := lw_g (lw_at lw_m9 66 rfl) rfl
theorem q2097 : (Jvm.Cond.constant "ElephantEdgeModel" (361 : Nat) (20022853 : Int32)) ∈ lw_all := lw_g (lw_at lw_m9 67 rfl) rfl
theorem q2098 : (Jvm.Cond.constant "ElephantEdgeModel" (362 : Nat) (758834 : Int32)) ∈ lw_all := lw_g (lw_at lw_m9 68 rfl) rfl
theorem q2099 : (Jvm.Cond.methodLink "ElephantEdgeModel" (304 : Nat) ({ cls := "ElephantEdgeModel", name := "wrong", desc := "(I)V" } : Jvm.MethodName)) ∈ lw_all := lw_g (lw_at lw_m9 69 rfl) rfl
theorem q2100 : (Jvm.Cond.privateMethod ({ cls := "ElephantEdgeModel", name := "wrong", desc := "(I)V" } : Jvm.MethodName)) ∈ lw_tbl := lw_at lw_m9 70 rfl
theorem q2101 : (Jvm.Cond.instanceMethod ({ cls := "ElephantEdgeModel", name := "wrong", desc := "(I)V" } : Jvm.MethodName)) ∈ lw_all := lw_g (lw_at lw_m9 71 rfl) rfl
theorem q2102 : (Jvm.Cond.code ({ cls := "ElephantEdgeModel", name := "wrong", desc := "(I)V" } : Jvm.MethodName) prog_23_method_23_code (2 : Nat) (Option.none : Option Jvm.ClassFile.FieldType)) ∈ lw_all := lw_g (lw_at lw_m9 72 rfl) rfl
theorem q2103 : (Jvm.Cond.methodLink "ElephantEdgeModel" (343 : Nat) ({ cls := "ElephantEdgeModel", name := "pass", desc := "()V" } : Jvm.MethodName)) ∈ lw_all := lw_g (lw_at lw_m9 73 rfl) rfl
theorem q2104 : (Jvm.Cond.privateMethod ({ cls := "ElephantEdgeModel", name := "pass", desc := "()V" } : Jvm.MethodName)) ∈ lw_tbl := lw_at lw_m9 74 rfl
theorem q2105 : (Jvm.Cond.instanceMethod ({ cls := "ElephantEdgeModel", name := "pass", desc := "()V" } : Jvm.MethodName)) ∈ lw_all := lw_g (lw_at lw_m9 75 rfl) rfl
theorem q2106 : (Jvm.Cond.code ({ cls := "ElephantEdgeModel", name := "pass", desc := "()V" } : Jvm.MethodName) prog_23_method_28_code (1 : Nat) (Option.none : Option Jvm.ClassFile.FieldType)) ∈ lw_all := lw_g (lw_at lw_m9 76 rfl) rfl
theorem q2107 : (Jvm.Cond.methodLink "ElephantEdgeModel" (363 : Nat) ({ cls := "ElephantEdgeModel", name := "readLike", desc := "()V" } : Jvm.MethodName)) ∈ lw_all := lw_g (lw_at lw_m9 77 rfl) rfl
theorem q2108 : (Jvm.Cond.privateMethod ({ cls := "ElephantEdgeModel", name := "readLike", desc := "()V" } : Jvm.MethodName)) ∈ lw_tbl := lw_at lw_m9 78 rfl
theorem q2109 : (Jvm.Cond.instanceMethod ({ cls := "ElephantEdgeModel", name := "readLike", desc := "()V" } : Jvm.MethodName)) ∈ lw_all := lw_g (lw_at lw_m9 79 rfl) rfl
theorem q2110 : (Jvm.Cond.code ({ cls := "ElephantEdgeModel", name := "readLike", desc := "()V" } : Jvm.MethodName) prog_23_method_38_code (4 : Nat) (Option.none : Option Jvm.ClassFile.FieldType)) ∈ lw_all := lw_g (lw_at lw_m9 80 rfl) rfl
theorem q2111 : (Jvm.Cond.constant "ElephantEdgeModel" (355 : Nat) (13674309 : Int32)) ∈ lw_all := lw_g (lw_at lw_m9 81 rfl) rfl
theorem q2112 : (Jvm.Cond.constant "ElephantEdgeModel" (356 : Nat) (446050484 : Int32)) ∈ lw_all := lw_g (lw_at lw_m9 82 rfl) rfl
theorem q2113 : (Jvm.Cond.constant "ElephantEdgeModel" (357 : Nat) (2262483 : Int32)) ∈ lw_all := lw_g (lw_at lw_m9 83 rfl) rfl
theorem q2114 : (Jvm.Cond.constant "ElephantEdgeModel" (358 : Nat) (13808110 : Int32)) ∈ lw_all := lw_g (lw_at lw_m9 84 rfl) rfl
theorem q2115 : (Jvm.Cond.methodLink "ElephantEdgeModel" (317 : Nat) ({ cls := "ElephantEdgeModel", name := "digits", desc := "(II)I" } : Jvm.MethodName)) ∈ lw_all := lw_g (lw_at lw_m9 85 rfl) rfl
theorem q2116 : (Jvm.Cond.privateMethod ({ cls := "ElephantEdgeModel", name := "digits", desc := "(II)I" } : Jvm.MethodName)) ∈ lw_tbl := lw_at lw_m9 86 rfl
theorem q2117 : (Jvm.Cond.instanceMethod ({ cls := "ElephantEdgeModel", name := "digits", desc := "(II)I" } : Jvm.MethodName)) ∈ lw_all := lw_g (lw_at lw_m9 87 rfl) rfl
theorem q2118 : (Jvm.Cond.code ({ cls := "ElephantEdgeModel", name := "digits", desc := "(II)I" } : Jvm.MethodName) prog_23_method_29_code (7 : Nat) (Option.some Jvm.ClassFile.FieldType.int)) ∈ lw_all := lw_g (lw_at lw_m9 88 rfl) rfl
theorem q2119 : (Jvm.Cond.methodLink "ElephantEdgeModel" (301 : Nat) ({ cls := "ElephantEdgeModel", name := "isDigit", desc := "(I)Z" } : Jvm.MethodName)) ∈ lw_all := lw_g (lw_at lw_m9 89 rfl) rfl
theorem q2120 : (Jvm.Cond.static ({ cls := "ElephantEdgeModel", name := "isDigit", desc := "(I)Z" } : Jvm.MethodName)) ∈ lw_all := lw_g (lw_at lw_m9 90 rfl) rfl
theorem q2121 : (Jvm.Cond.code ({ cls := "ElephantEdgeModel", name := "isDigit", desc := "(I)Z" } : Jvm.MethodName) prog_23_method_26_code (1 : Nat) (Option.some Jvm.ClassFile.FieldType.boolean)) ∈ lw_all := lw_g (lw_at lw_m9 91 rfl) rfl
theorem q2122 : (Jvm.Cond.methodLink "ElephantEdgeModel" (366 : Nat) ({ cls := "ElephantEdgeModel", name := "readPay", desc := "()V" } : Jvm.MethodName)) ∈ lw_all := lw_g (lw_at lw_m9 92 rfl) rfl
theorem q2123 : (Jvm.Cond.privateMethod ({ cls := "ElephantEdgeModel", name := "readPay", desc := "()V" } : Jvm.MethodName)) ∈ lw_tbl := lw_at lw_m9 93 rfl
theorem q2124 : (Jvm.Cond.instanceMethod ({ cls := "ElephantEdgeModel", name := "readPay", desc := "()V" } : Jvm.MethodName)) ∈ lw_all := lw_g (lw_at lw_m9 94 rfl) rfl
theorem q2125 : (Jvm.Cond.code ({ cls := "ElephantEdgeModel", name := "readPay", desc := "()V" } : Jvm.MethodName) prog_23_method_39_code (2 : Nat) (Option.none : Option Jvm.ClassFile.FieldType)) ∈ lw_all := lw_g (lw_at lw_m9 95 rfl) rfl
theorem q2126 : (Jvm.Cond.methodLink "ElephantEdgeModel" (327 : Nat) ({ cls := "ElephantEdgeModel", name := "whole", desc := "()V" } : Jvm.MethodName)) ∈ lw_all := lw_g (lw_at lw_m9 96 rfl) rfl
theorem q2127 : (Jvm.Cond.privateMethod ({ cls := "ElephantEdgeModel", name := "whole", desc := "()V" } : Jvm.MethodName)) ∈ lw_tbl := lw_at lw_m9 97 rfl
theorem q2128 : (Jvm.Cond.instanceMethod ({ cls := "ElephantEdgeModel", name := "whole", desc := "()V" } : Jvm.MethodName)) ∈ lw_all := lw_g (lw_at lw_m9 98 rfl) rfl
theorem q2129 : (Jvm.Cond.code ({ cls := "ElephantEdgeModel", name := "whole", desc := "()V" } : Jvm.MethodName) prog_23_method_37_code (2 : Nat) (Option.none : Option Jvm.ClassFile.FieldType)) ∈ lw_all := lw_g (lw_at lw_m9 99 rfl) rfl
theorem q2130 : (Jvm.Cond.methodLink "ElephantEdgeModel" (352 : Nat) ({ cls := "ElephantEdgeModel", name := "part", desc := "()V" } : Jvm.MethodName)) ∈ lw_all := lw_g (lw_at lw_m9 100 rfl) rfl
theorem q2131 : (Jvm.Cond.privateMethod ({ cls := "ElephantEdgeModel", name := "part", desc := "()V" } : Jvm.MethodName)) ∈ lw_tbl := lw_at lw_m9 101 rfl
theorem q2132 : (Jvm.Cond.instanceMethod ({ cls := "ElephantEdgeModel", name := "part", desc := "()V" } : Jvm.MethodName)) ∈ lw_all := lw_g (lw_at lw_m9 102 rfl) rfl
theorem q2133 : (Jvm.Cond.code ({ cls := "ElephantEdgeModel", name := "part", desc := "()V" } : Jvm.MethodName) prog_23_method_36_code (2 : Nat) (Option.none : Option Jvm.ClassFile.FieldType)) ∈ lw_all := lw_g (lw_at lw_m9 103 rfl) rfl
theorem q2134 : (Jvm.Cond.methodLink "ElephantEdgeModel" (349 : Nat) ({ cls := "ElephantEdgeModel", name := "unit", desc := "()V" } : Jvm.MethodName)) ∈ lw_all := lw_g (lw_at lw_m9 104 rfl) rfl
theorem q2135 : (Jvm.Cond.privateMethod ({ cls := "ElephantEdgeModel", name := "unit", desc := "()V" } : Jvm.MethodName)) ∈ lw_tbl := lw_at lw_m9 105 rfl
theorem q2136 : (Jvm.Cond.instanceMethod ({ cls := "ElephantEdgeModel", name := "unit", desc := "()V" } : Jvm.MethodName)) ∈ lw_all := lw_g (lw_at lw_m9 106 rfl) rfl
theorem q2137 : (Jvm.Cond.code ({ cls := "ElephantEdgeModel", name := "unit", desc := "()V" } : Jvm.MethodName) prog_23_method_34_code (4 : Nat) (Option.none : Option Jvm.ClassFile.FieldType)) ∈ lw_all := lw_g (lw_at lw_m9 107 rfl) rfl
theorem q2138 : (Jvm.Cond.methodLink "ElephantEdgeModel" (320 : Nat) ({ cls := "ElephantEdgeModel", name := "emit", desc := "(II)V" } : Jvm.MethodName)) ∈ lw_all := lw_g (lw_at lw_m9 108 rfl) rfl
theorem q2139 : (Jvm.Cond.privateMethod ({ cls := "ElephantEdgeModel", name := "emit", desc := "(II)V" } : Jvm.MethodName)) ∈ lw_tbl := lw_at lw_m9 109 rfl
theorem q2140 : (Jvm.Cond.instanceMethod ({ cls := "ElephantEdgeModel", name := "emit", desc := "(II)V" } : Jvm.MethodName)) ∈ lw_all := lw_g (lw_at lw_m9 110 rfl) rfl
theorem q2141 : (Jvm.Cond.code ({ cls := "ElephantEdgeModel", name := "emit", desc := "(II)V" } : Jvm.MethodName) prog_23_method_30_code (3 : Nat) (Option.none : Option Jvm.ClassFile.FieldType)) ∈ lw_all := lw_g (lw_at lw_m9 111 rfl) rfl
theorem q2142 : (Jvm.Cond.methodLink "ElephantEdgeModel" (324 : Nat) ({ cls := "ElephantEdgeModel", name := "opensOne", desc := "()V" } : Jvm.MethodName)) ∈ lw_all := lw_g (lw_at lw_m9 112 rfl) rfl
theorem q2143 : (Jvm.Cond.privateMethod ({ cls := "ElephantEdgeModel", name := "opensOne", desc := "()V" } : Jvm.MethodName)) ∈ lw_tbl := lw_at lw_m9 113 rfl
theorem q2144 : (Jvm.Cond.instanceMethod ({ cls := "ElephantEdgeModel", name := "opensOne", desc := "()V" } : Jvm.MethodName)) ∈ lw_all := lw_g (lw_at lw_m9 114 rfl) rfl
theorem q2145 : (Jvm.Cond.code ({ cls := "ElephantEdgeModel", name := "opensOne", desc := "()V" } : Jvm.MethodName) prog_23_method_32_code (1 : Nat) (Option.none : Option Jvm.ClassFile.FieldType)) ∈ lw_all := lw_g (lw_at lw_m9 115 rfl) rfl
theorem q2146 : (Jvm.Cond.methodLink "ElephantEdgeModel" (330 : Nat) ({ cls := "ElephantEdgeModel", name := "closesOne", desc := "()V" } : Jvm.MethodName)) ∈ lw_all := lw_g (lw_at lw_m9 116 rfl) rfl
theorem q2147 : (Jvm.Cond.privateMethod ({ cls := "ElephantEdgeModel", name := "closesOne", desc := "()V" } : Jvm.MethodName)) ∈ lw_tbl := lw_at lw_m9 117 rfl
theorem q2148 : (Jvm.Cond.instanceMethod ({ cls := "ElephantEdgeModel", name := "closesOne", desc := "()V" } : Jvm.MethodName)) ∈ lw_all := lw_g (lw_at lw_m9 118 rfl) rfl
theorem q2149 : (Jvm.Cond.code ({ cls := "ElephantEdgeModel", name := "closesOne", desc := "()V" } : Jvm.MethodName) prog_23_method_33_code (1 : Nat) (Option.none : Option Jvm.ClassFile.FieldType)) ∈ lw_all := lw_g (lw_at lw_m9 119 rfl) rfl
theorem q2150 : (Jvm.Cond.methodLink "ElephantEdgeModel" (314 : Nat) ({ cls := "ElephantEdgeModel", name := "need", desc := "(I)V" } : Jvm.MethodName)) ∈ lw_all := lw_g (lw_at lw_m9 120 rfl) rfl
theorem q2151 : (Jvm.Cond.privateMethod ({ cls := "ElephantEdgeModel", name := "need", desc := "(I)V" } : Jvm.MethodName)) ∈ lw_tbl := lw_at lw_m9 121 rfl
theorem q2152 : (Jvm.Cond.instanceMethod ({ cls := "ElephantEdgeModel", name := "need", desc := "(I)V" } : Jvm.MethodName)) ∈ lw_all := lw_g (lw_at lw_m9 122 rfl) rfl
theorem q2153 : (Jvm.Cond.code ({ cls := "ElephantEdgeModel", name := "need", desc := "(I)V" } : Jvm.MethodName) prog_23_method_31_code (2 : Nat) (Option.none : Option Jvm.ClassFile.FieldType)) ∈ lw_all := lw_g (lw_at lw_m9 123 rfl) rfl
theorem q2154 : (Jvm.Cond.constant "ElephantEdgeModel" (336 : Nat) (409204 : Int32)) ∈ lw_all := lw_g (lw_at lw_m9 124 rfl) rfl
theorem q2155 : (Jvm.Cond.constant "ElephantEdgeModel" (337 : Nat) (357702820 : Int32)) ∈ lw_all := lw_g (lw_at lw_m9 125 rfl) rfl
theorem q2156 : (Jvm.Cond.constant "ElephantEdgeModel" (338 : Nat) (14137992 : Int32)) ∈ lw_all := lw_g (lw_at lw_m9 126 rfl) rfl
theorem q2157 : (Jvm.Cond.constant "ElephantEdgeModel" (339 : Nat) (218564 : Int32)) ∈ lw_all := lw_g (lw_at lw_m9 127 rfl) rfl
theorem q2158 : (Jvm.Cond.constant "ElephantEdgeModel" (340 : Nat) (394885 : Int32)) ∈ lw_all := lw_g (lw_at lw_m9 128 rfl) rfl
theorem q2159 : (Jvm.Cond.constant "ElephantEdgeModel" (341 : Nat) (12748404 : Int32)) ∈ lw_all := lw_g (lw_at lw_m9 129 rfl) rfl
theorem q2160 : (Jvm.Cond.constant "ElephantEdgeModel" (342 : Nat) (441972 : Int32)) ∈ lw_all := lw_g (lw_at lw_m9 130 rfl) rfl
theorem q2161 : (Jvm.Cond.methodLink "ElephantEdgeModel" (346 : Nat) ({ cls := "ElephantEdgeModel", name := "branch", desc := "()V" } : Jvm.MethodName)) ∈ lw_all := lw_g (lw_at lw_m9 131 rfl) rfl
theorem q2162 : (Jvm.Cond.privateMethod ({ cls := "ElephantEdgeModel", name := "branch", desc := "()V" } : Jvm.MethodName)) ∈ lw_tbl := lw_at lw_m9 132 rfl
theorem q2163 : (Jvm.Cond.instanceMethod ({ cls := "ElephantEdgeModel", name := "branch", desc := "()V" } : Jvm.MethodName)) ∈ lw_all := lw_g (lw_at lw_m9 133 rfl) rfl
theorem q2164 : (Jvm.Cond.code ({ cls := "ElephantEdgeModel", name := "branch", desc := "()V" } : Jvm.MethodName) prog_23_method_35_code (2 : Nat) (Option.none : Option Jvm.ClassFile.FieldType)) ∈ lw_all := lw_g (lw_at lw_m9 134 rfl) rfl
theorem q2166 : (Jvm.Cond.instanceMethod ({ cls := "ElephantEdgeModel", name := "like", desc := "(II)I" } : Jvm.MethodName)) ∈ lw_all := lw_g (lw_at lw_m9 136 rfl) rfl
theorem q2167 : (Jvm.Cond.selects "ElephantEdgeModel" ({ cls := "ElephantEdgeModel", name := "like", desc := "(II)I" } : Jvm.MethodName) ({ cls := "ElephantEdgeModel", name := "like", desc := "(II)I" } : Jvm.MethodName)) ∈ lw_all := lw_g (lw_at lw_m9 137 rfl) rfl
theorem q2168 : (Jvm.Cond.code ({ cls := "ElephantEdgeModel", name := "like", desc := "(II)I" } : Jvm.MethodName) prog_23_method_44_code (3 : Nat) (Option.some Jvm.ClassFile.FieldType.int)) ∈ lw_all := lw_g (lw_at lw_m9 138 rfl) rfl
theorem q2169 : (Jvm.Cond.methodLink "ElephantEdgeModel" (375 : Nat) ({ cls := "ElephantEdgeModel", name := "likeIn", desc := "(II)I" } : Jvm.MethodName)) ∈ lw_all := lw_g (lw_at lw_m9 139 rfl) rfl
theorem q2170 : (Jvm.Cond.privateMethod ({ cls := "ElephantEdgeModel", name := "likeIn", desc := "(II)I" } : Jvm.MethodName)) ∈ lw_tbl := lw_at lw_m9 140 rfl
theorem q2171 : (Jvm.Cond.instanceMethod ({ cls := "ElephantEdgeModel", name := "likeIn", desc := "(II)I" } : Jvm.MethodName)) ∈ lw_all := lw_g (lw_at lw_m9 141 rfl) rfl
theorem q2172 : (Jvm.Cond.code ({ cls := "ElephantEdgeModel", name := "likeIn", desc := "(II)I" } : Jvm.MethodName) prog_23_method_43_code (3 : Nat) (Option.some Jvm.ClassFile.FieldType.int)) ∈ lw_all := lw_g (lw_at lw_m9 142 rfl) rfl
theorem q2174 : (Jvm.Cond.instanceMethod ({ cls := "ElephantEdgeModel", name := "herd", desc := "(III)I" } : Jvm.MethodName)) ∈ lw_all := lw_g (lw_at lw_m9 144 rfl) rfl
theorem q2175 : (Jvm.Cond.selects "ElephantEdgeModel" ({ cls := "ElephantEdgeModel", name := "herd", desc := "(III)I" } : Jvm.MethodName) ({ cls := "ElephantEdgeModel", name := "herd", desc := "(III)I" } : Jvm.MethodName)) ∈ lw_all := lw_g (lw_at lw_m9 145 rfl) rfl
theorem q2176 : (Jvm.Cond.code ({ cls := "ElephantEdgeModel", name := "herd", desc := "(III)I" } : Jvm.MethodName) prog_23_method_45_code (4 : Nat) (Option.some Jvm.ClassFile.FieldType.int)) ∈ lw_all := lw_g (lw_at lw_m9 146 rfl) rfl
theorem q2178 : (Jvm.Cond.instanceMethod ({ cls := "ElephantEdgeModel", name := "cost", desc := "(II)I" } : Jvm.MethodName)) ∈ lw_all := lw_g (lw_at lw_m9 148 rfl) rfl
theorem q2179 : (Jvm.Cond.selects "ElephantEdgeModel" ({ cls := "ElephantEdgeModel", name := "cost", desc := "(II)I" } : Jvm.MethodName) ({ cls := "ElephantEdgeModel", name := "cost", desc := "(II)I" } : Jvm.MethodName)) ∈ lw_all := lw_g (lw_at lw_m9 149 rfl) rfl
theorem q2180 : (Jvm.Cond.code ({ cls := "ElephantEdgeModel", name := "cost", desc := "(II)I" } : Jvm.MethodName) prog_23_method_52_code (3 : Nat) (Option.some Jvm.ClassFile.FieldType.int)) ∈ lw_all := lw_g (lw_at lw_m9 150 rfl) rfl
theorem q2181 : (Jvm.Cond.methodLink "ElephantEdgeModel" (391 : Nat) ({ cls := "ElephantEdgeModel", name := "isHerd", desc := "(I)Z" } : Jvm.MethodName)) ∈ lw_all := lw_g (lw_at lw_m9 151 rfl) rfl
theorem q2182 : (Jvm.Cond.privateMethod ({ cls := "ElephantEdgeModel", name := "isHerd", desc := "(I)Z" } : Jvm.MethodName)) ∈ lw_tbl := lw_at lw_m9 152 rfl
theorem q2183 : (Jvm.Cond.instanceMethod ({ cls := "ElephantEdgeModel", name := "isHerd", desc := "(I)Z" } : Jvm.MethodName)) ∈ lw_all := lw_g (lw_at lw_m9 153 rfl) rfl
theorem q2184 : (Jvm.Cond.code ({ cls := "ElephantEdgeModel", name := "isHerd", desc := "(I)Z" } : Jvm.MethodName) prog_23_method_51_code (2 : Nat) (Option.some Jvm.ClassFile.FieldType.boolean)) ∈ lw_all := lw_g (lw_at lw_m9 154 rfl) rfl
theorem q2185 : (Jvm.Cond.methodLink "ElephantEdgeModel" (394 : Nat) ({ cls := "ElephantEdgeModel", name := "setScene", desc := "()V" } : Jvm.MethodName)) ∈ lw_all := lw_g (lw_at lw_m9 155 rfl) rfl
theorem q2186 : (Jvm.Cond.privateMethod ({ cls := "ElephantEdgeModel", name := "setScene", desc := "()V" } : Jvm.MethodName)) ∈ lw_tbl := lw_at lw_m9 156 rfl
theorem q2187 : (Jvm.Cond.instanceMethod ({ cls := "ElephantEdgeModel", name := "setScene", desc := "()V" } : Jvm.MethodName)) ∈ lw_all := lw_g (lw_at lw_m9 157 rfl) rfl
theorem q2188 : (Jvm.Cond.code ({ cls := "ElephantEdgeModel", name := "setScene", desc := "()V" } : Jvm.MethodName) prog_23_method_50_code (2 : Nat) (Option.none : Option Jvm.ClassFile.FieldType)) ∈ lw_all := lw_g (lw_at lw_m9 158 rfl) rfl
theorem q2189 : (Jvm.Cond.methodLink "ElephantEdgeModel" (397 : Nat) ({ cls := "ElephantEdgeModel", name := "findCosts", desc := "(I)V" } : Jvm.MethodName)) ∈ lw_all := lw_g (lw_at lw_m9 159 rfl) rfl
theorem q2190 : (Jvm.Cond.privateMethod ({ cls := "ElephantEdgeModel", name := "findCosts", desc := "(I)V" } : Jvm.MethodName)) ∈ lw_tbl := lw_at lw_m9 160 rfl
theorem q2191 : (Jvm.Cond.instanceMethod ({ cls := "ElephantEdgeModel", name := "findCosts", desc := "(I)V" } : Jvm.MethodName)) ∈ lw_all := lw_g (lw_at lw_m9 161 rfl) rfl
theorem q2192 : (Jvm.Cond.code ({ cls := "ElephantEdgeModel", name := "findCosts", desc := "(I)V" } : Jvm.MethodName) prog_23_method_47_code (6 : Nat) (Option.none : Option Jvm.ClassFile.FieldType)) ∈ lw_all := lw_g (lw_at lw_m9 162 rfl) rfl
theorem q2193 : (Jvm.Cond.constant "ElephantEdgeModel" (378 : Nat) (1000000000 : Int32)) ∈ lw_all := lw_g (lw_at lw_m9 163 rfl) rfl
theorem q2194 : (Jvm.Cond.methodLink "ElephantEdgeModel" (379 : Nat) ({ cls := "ElephantEdgeModel", name := "neighbour", desc := "(II)I" } : Jvm.MethodName)) ∈ lw_all := lw_g (lw_at lw_m9 164 rfl) rfl
theorem q2195 : (Jvm.Cond.static ({ cls := "ElephantEdgeModel", name := "neighbour", desc := "(II)I" } : Jvm.MethodName)) ∈ lw_all := lw_g (lw_at lw_m9 165 rfl) rfl
theorem q2196 : (Jvm.Cond.code ({ cls := "ElephantEdgeModel", name := "neighbour", desc := "(II)I" } : Jvm.MethodName) prog_23_method_8_code (2 : Nat) (Option.some Jvm.ClassFile.FieldType.int)) ∈ lw_all := lw_g (lw_at lw_m9 166 rfl) rfl
theorem q2197 : (Jvm.Cond.methodLink "ElephantEdgeModel" (382 : Nat) ({ cls := "ElephantEdgeModel", name := "stepCost", desc := "(II)I" } : Jvm.MethodName)) ∈ lw_all := lw_g (lw_at lw_m9 167 rfl) rfl
theorem q2198 : (Jvm.Cond.privateMethod ({ cls := "ElephantEdgeModel", name := "stepCost", desc := "(II)I" } : Jvm.MethodName)) ∈ lw_tbl := lw_at lw_m9 168 rfl
theorem q2199 : (Jvm.Cond.instanceMethod ({ cls := "ElephantEdgeModel", name := "stepCost", desc := "(II)I" } : Jvm.MethodName)) ∈ lw_all := lw_g (lw_at lw_m9 169 rfl) rfl
theorem q2200 : (Jvm.Cond.code ({ cls := "ElephantEdgeModel", name := "stepCost", desc := "(II)I" } : Jvm.MethodName) prog_23_method_46_code (3 : Nat) (Option.some Jvm.ClassFile.FieldType.int)) ∈ lw_all := lw_g (lw_at lw_m9 170 rfl) rfl
theorem q2202 : (Jvm.Cond.instanceMethod ({ cls := "ElephantEdgeModel", name := "way", desc := "(III)I" } : Jvm.MethodName)) ∈ lw_all := lw_g (lw_at lw_m9 172 rfl) rfl
theorem q2203 : (Jvm.Cond.selects "ElephantEdgeModel" ({ cls := "ElephantEdgeModel", name := "way", desc := "(III)I" } : Jvm.MethodName) ({ cls := "ElephantEdgeModel", name := "way", desc := "(III)I" } : Jvm.MethodName)) ∈ lw_all := lw_g (lw_at lw_m9 173 rfl) rfl
theorem q2204 : (Jvm.Cond.code ({ cls := "ElephantEdgeModel", name := "way", desc := "(III)I" } : Jvm.MethodName) prog_23_method_53_code (4 : Nat) (Option.some Jvm.ClassFile.FieldType.int)) ∈ lw_all := lw_g (lw_at lw_m9 174 rfl) rfl
theorem q2205 : (Jvm.Cond.methodLink "ElephantEdgeModel" (400 : Nat) ({ cls := "ElephantEdgeModel", name := "findPath", desc := "(II)V" } : Jvm.MethodName)) ∈ lw_all := lw_g (lw_at lw_m9 175 rfl) rfl
theorem q2206 : (Jvm.Cond.privateMethod ({ cls := "ElephantEdgeModel", name := "findPath", desc := "(II)V" } : Jvm.MethodName)) ∈ lw_tbl := lw_at lw_m9 176 rfl
theorem q2207 : (Jvm.Cond.instanceMethod ({ cls := "ElephantEdgeModel", name := "findPath", desc := "(II)V" } : Jvm.MethodName)) ∈ lw_all := lw_g (lw_at lw_m9 177 rfl) rfl
theorem q2208 : (Jvm.Cond.code ({ cls := "ElephantEdgeModel", name := "findPath", desc := "(II)V" } : Jvm.MethodName) prog_23_method_48_code (7 : Nat) (Option.none : Option Jvm.ClassFile.FieldType)) ∈ lw_all := lw_g (lw_at lw_m9 178 rfl) rfl
theorem q2209 : (Jvm.Cond.methodLink "ElephantEdgeModel" (388 : Nat) ({ cls := "ElephantEdgeModel", name := "isOn", desc := "(II)Z" } : Jvm.MethodName)) ∈ lw_all := lw_g (lw_at lw_m9 179 rfl) rfl
theorem q2210 : (Jvm.Cond.privateMethod ({ cls := "ElephantEdgeModel", name := "isOn", desc := "(II)Z" } : Jvm.MethodName)) ∈ lw_tbl := lw_at lw_m9 180 rfl
theorem q2211 : (Jvm.Cond.instanceMethod ({ cls := "ElephantEdgeModel", name := "isOn", desc := "(II)Z" } : Jvm.MethodName)) ∈ lw_all := lw_g (lw_at lw_m9 181 rfl) rfl
theorem q2212 : (Jvm.Cond.code ({ cls := "ElephantEdgeModel", name := "isOn", desc := "(II)Z" } : Jvm.MethodName) prog_23_method_49_code (3 : Nat) (Option.some Jvm.ClassFile.FieldType.boolean)) ∈ lw_all := lw_g (lw_at lw_m9 182 rfl) rfl
theorem q2214 : (Jvm.Cond.instanceMethod ({ cls := "ElephantEdgeModel", name := "foretold", desc := "(II)I" } : Jvm.MethodName)) ∈ lw_all := lw_g (lw_at lw_m9 184 rfl) rfl
theorem q2215 : (Jvm.Cond.selects "ElephantEdgeModel" ({ cls := "ElephantEdgeModel", name := "foretold", desc := "(II)I" } : Jvm.MethodName) ({ cls := "ElephantEdgeModel", name := "foretold", desc := "(II)I" } : Jvm.MethodName)) ∈ lw_all := lw_g (lw_at lw_m9 185 rfl) rfl
theorem q2216 : (Jvm.Cond.code ({ cls := "ElephantEdgeModel", name := "foretold", desc := "(II)I" } : Jvm.MethodName) prog_23_method_61_code (3 : Nat) (Option.some Jvm.ClassFile.FieldType.int)) ∈ lw_all := lw_g (lw_at lw_m9 186 rfl) rfl
theorem q2217 : (Jvm.Cond.methodLink "ElephantEdgeModel" (431 : Nat) ({ cls := "ElephantEdgeModel", name := "isNights", desc := "(I)Z" } : Jvm.MethodName)) ∈ lw_all := lw_g (lw_at lw_m9 187 rfl) rfl
theorem q2218 : (Jvm.Cond.static ({ cls := "ElephantEdgeModel", name := "isNights", desc := "(I)Z" } : Jvm.MethodName)) ∈ lw_all := lw_g (lw_at lw_m9 188 rfl) rfl
theorem q2219 : (Jvm.Cond.code ({ cls := "ElephantEdgeModel", name := "isNights", desc := "(I)Z" } : Jvm.MethodName) prog_23_method_60_code (1 : Nat) (Option.some Jvm.ClassFile.FieldType.boolean)) ∈ lw_all := lw_g (lw_at lw_m9 189 rfl) rfl
theorem q2220 : (Jvm.Cond.methodLink "ElephantEdgeModel" (434 : Nat) ({ cls := "ElephantEdgeModel", name := "foretells", desc := "(I)V" } : Jvm.MethodName)) ∈ lw_all := lw_g (lw_at lw_m9 190 rfl) rfl
theorem q2221 : (Jvm.Cond.privateMethod ({ cls := "ElephantEdgeModel", name := "foretells", desc := "(I)V" } : Jvm.MethodName)) ∈ lw_tbl := lw_at lw_m9 191 rfl
theorem q2222 : (Jvm.Cond.instanceMethod ({ cls := "ElephantEdgeModel", name := "foretells", desc := "(I)V" } : Jvm.MethodName)) ∈ lw_all := lw_g (lw_at lw_m9 192 rfl) rfl
theorem q2223 : (Jvm.Cond.code ({ cls := "ElephantEdgeModel", name := "foretells", desc := "(I)V" } : Jvm.MethodName) prog_23_method_59_code (3 : Nat) (Option.none : Option Jvm.ClassFile.FieldType)) ∈ lw_all := lw_g (lw_at lw_m9 193 rfl) rfl
theorem q2224 : (Jvm.Cond.methodLink "ElephantEdgeModel" (421 : Nat) ({ cls := "ElephantEdgeModel", name := "clearLost", desc := "()V" } : Jvm.MethodName)) ∈ lw_all := lw_g (lw_at lw_m9 194 rfl) rfl
theorem q2225 : (Jvm.Cond.privateMethod ({ cls := "ElephantEdgeModel", name := "clearLost", desc := "()V" } : Jvm.MethodName)) ∈ lw_tbl := lw_at lw_m9 195 rfl
theorem q2226 : (Jvm.Cond.instanceMethod ({ cls := "ElephantEdgeModel", name := "clearLost", desc := "()V" } : Jvm.MethodName)) ∈ lw_all := lw_g (lw_at lw_m9 196 rfl) rfl
theorem q2227 : (Jvm.Cond.code ({ cls := "ElephantEdgeModel", name := "clearLost", desc := "()V" } : Jvm.MethodName) prog_23_method_58_code (2 : Nat) (Option.none : Option Jvm.ClassFile.FieldType)) ∈ lw_all := lw_g (lw_at lw_m9 197 rfl) rfl
theorem q2228 : (Jvm.Cond.methodLink "ElephantEdgeModel" (427 : Nat) ({ cls := "ElephantEdgeModel", name := "passes", desc := "(IZ)V" } : Jvm.MethodName)) ∈ lw_all := lw_g (lw_at lw_m9 198 rfl) rfl
theorem q2229 : (Jvm.Cond.privateMethod ({ cls := "ElephantEdgeModel", name := "passes", desc := "(IZ)V" } : Jvm.MethodName)) ∈ lw_tbl := lw_at lw_m9 199 rfl
theorem q2230 : (Jvm.Cond.instanceMethod ({ cls := "ElephantEdgeModel", name := "passes", desc := "(IZ)V" } : Jvm.MethodName)) ∈ lw_all := lw_g (lw_at lw_m9 200 rfl) rfl
theorem q2231 : (Jvm.Cond.code ({ cls := "ElephantEdgeModel", name := "passes", desc := "(IZ)V" } : Jvm.MethodName) prog_23_method_57_code (6 : Nat) (Option.none : Option Jvm.ClassFile.FieldType)) ∈ lw_all := lw_g (lw_at lw_m9 201 rfl) rfl
theorem q2232 : (Jvm.Cond.methodLink "ElephantEdgeModel" (409 : Nat) ({ cls := "ElephantEdgeModel", name := "scares", desc := "(I)V" } : Jvm.MethodName)) ∈ lw_all := lw_g (lw_at lw_m9 202 rfl) rfl
theorem q2233 : (Jvm.Cond.privateMethod ({ cls := "ElephantEdgeModel", name := "scares", desc := "(I)V" } : Jvm.MethodName)) ∈ lw_tbl := lw_at lw_m9 203 rfl
theorem q2234 : (Jvm.Cond.instanceMethod ({ cls := "ElephantEdgeModel", name := "scares", desc := "(I)V" } : Jvm.MethodName)) ∈ lw_all := lw_g (lw_at lw_m9 204 rfl) rfl
theorem q2235 : (Jvm.Cond.code ({ cls := "ElephantEdgeModel", name := "scares", desc := "(I)V" } : Jvm.MethodName) prog_23_method_54_code (4 : Nat) (Option.none : Option Jvm.ClassFile.FieldType)) ∈ lw_all := lw_g (lw_at lw_m9 205 rfl) rfl
theorem q2236 : (Jvm.Cond.methodLink "ElephantEdgeModel" (415 : Nat) ({ cls := "ElephantEdgeModel", name := "targetOf", desc := "(II)I" } : Jvm.MethodName)) ∈ lw_all := lw_g (lw_at lw_m9 206 rfl) rfl
theorem q2237 : (Jvm.Cond.privateMethod ({ cls := "ElephantEdgeModel", name := "targetOf", desc := "(II)I" } : Jvm.MethodName)) ∈ lw_tbl := lw_at lw_m9 207 rfl
theorem q2238 : (Jvm.Cond.instanceMethod ({ cls := "ElephantEdgeModel", name := "targetOf", desc := "(II)I" } : Jvm.MethodName)) ∈ lw_all := lw_g (lw_at lw_m9 208 rfl) rfl
theorem q2239 : (Jvm.Cond.code ({ cls := "ElephantEdgeModel", name := "targetOf", desc := "(II)I" } : Jvm.MethodName) prog_23_method_56_code (7 : Nat) (Option.some Jvm.ClassFile.FieldType.int)) ∈ lw_all := lw_g (lw_at lw_m9 209 rfl) rfl
theorem q2240 : (Jvm.Cond.methodLink "ElephantEdgeModel" (418 : Nat) ({ cls := "ElephantEdgeModel", name := "eats", desc := "(II)V" } : Jvm.MethodName)) ∈ lw_all := lw_g (lw_at lw_m9 210 rfl) rfl
theorem q2241 : (Jvm.Cond.privateMethod ({ cls := "ElephantEdgeModel", name := "eats", desc := "(II)V" } : Jvm.MethodName)) ∈ lw_tbl := lw_at lw_m9 211 rfl
theorem q2242 : (Jvm.Cond.instanceMethod ({ cls := "ElephantEdgeModel", name := "eats", desc := "(II)V" } : Jvm.MethodName)) ∈ lw_all := lw_g (lw_at lw_m9 212 rfl) rfl
theorem q2243 : (Jvm.Cond.code ({ cls := "ElephantEdgeModel", name := "eats", desc := "(II)V" } : Jvm.MethodName) prog_23_method_55_code (4 : Nat) (Option.none : Option Jvm.ClassFile.FieldType)) ∈ lw_all := lw_g (lw_at lw_m9 213 rfl) rfl
theorem q2245 : (Jvm.Cond.instanceMethod ({ cls := "ElephantEdgeModel", name := "pushed", desc := "(III)I" } : Jvm.MethodName)) ∈ lw_all := lw_g (lw_at lw_m9 215 rfl) rfl
theorem q2246 : (Jvm.Cond.selects "ElephantEdgeModel" ({ cls := "ElephantEdgeModel", name := "pushed", desc := "(III)I" } : Jvm.MethodName) ({ cls := "ElephantEdgeModel", name := "pushed", desc := "(III)I" } : Jvm.MethodName)) ∈ lw_all := lw_g (lw_at lw_m9 216 rfl) rfl
theorem q2247 : (Jvm.Cond.code ({ cls := "ElephantEdgeModel", name := "pushed", desc := "(III)I" } : Jvm.MethodName) prog_23_method_62_code (5 : Nat) (Option.some Jvm.ClassFile.FieldType.int)) ∈ lw_all := lw_g (lw_at lw_m9 217 rfl) rfl
theorem q2248 : (Jvm.Cond.methodLink "ElephantEdgeModel" (437 : Nat) ({ cls := "ElephantEdgeModel", name := "isFamily", desc := "(I)Z" } : Jvm.MethodName)) ∈ lw_all := lw_g (lw_at lw_m9 218 rfl) rfl
theorem q2249 : (Jvm.Cond.privateMethod ({ cls := "ElephantEdgeModel", name := "isFamily", desc := "(I)Z" } : Jvm.MethodName)) ∈ lw_tbl := lw_at lw_m9 219 rfl
theorem q2250 : (Jvm.Cond.instanceMethod ({ cls := "ElephantEdgeModel", name := "isFamily", desc := "(I)Z" } : Jvm.MethodName)) ∈ lw_all := lw_g (lw_at lw_m9 220 rfl) rfl
theorem q2251 : (Jvm.Cond.code ({ cls := "ElephantEdgeModel", name := "isFamily", desc := "(I)Z" } : Jvm.MethodName) prog_23_method_13_code (2 : Nat) (Option.some Jvm.ClassFile.FieldType.boolean)) ∈ lw_all := lw_g (lw_at lw_m9 221 rfl) rfl
theorem q2253 : (Jvm.Cond.instanceMethod ({ cls := "ElephantEdgeModel", name := "build", desc := "(II)I" } : Jvm.MethodName)) ∈ lw_all := lw_g (lw_at lw_m9 223 rfl) rfl
theorem q2254 : (Jvm.Cond.selects "ElephantEdgeModel" ({ cls := "ElephantEdgeModel", name := "build", desc := "(II)I" } : Jvm.MethodName) ({ cls := "ElephantEdgeModel", name := "build", desc := "(II)I" } : Jvm.MethodName)) ∈ lw_all := lw_g (lw_at lw_m9 224 rfl) rfl
theorem q2255 : (Jvm.Cond.code ({ cls := "ElephantEdgeModel", name := "build", desc := "(II)I" } : Jvm.MethodName) prog_23_method_66_code (4 : Nat) (Option.some Jvm.ClassFile.FieldType.int)) ∈ lw_all := lw_g (lw_at lw_m9 225 rfl) rfl
theorem q2256 : (Jvm.Cond.methodLink "ElephantEdgeModel" (455 : Nat) ({ cls := "ElephantEdgeModel", name := "findTwelve", desc := "()V" } : Jvm.MethodName)) ∈ lw_all := lw_g (lw_at lw_m9 226 rfl) rfl
theorem q2257 : (Jvm.Cond.privateMethod ({ cls := "ElephantEdgeModel", name := "findTwelve", desc := "()V" } : Jvm.MethodName)) ∈ lw_tbl := lw_at lw_m9 227 rfl
theorem q2258 : (Jvm.Cond.instanceMethod ({ cls := "ElephantEdgeModel", name := "findTwelve", desc := "()V" } : Jvm.MethodName)) ∈ lw_all := lw_g (lw_at lw_m9 228 rfl) rfl
theorem q2259 : (Jvm.Cond.code ({ cls := "ElephantEdgeModel", name := "findTwelve", desc := "()V" } : Jvm.MethodName) prog_23_method_63_code (2 : Nat) (Option.none : Option Jvm.ClassFile.FieldType)) ∈ lw_all := lw_g (lw_at lw_m9 229 rfl) rfl
theorem q2260 : (Jvm.Cond.methodLink "ElephantEdgeModel" (458 : Nat) ({ cls := "ElephantEdgeModel", name := "tryFence", desc := "(III)V" } : Jvm.MethodName)) ∈ lw_all := lw_g (lw_at lw_m9 230 rfl) rfl
theorem q2261 : (Jvm.Cond.privateMethod ({ cls := "ElephantEdgeModel", name := "tryFence", desc := "(III)V" } : Jvm.MethodName)) ∈ lw_tbl := lw_at lw_m9 231 rfl
theorem q2262 : (Jvm.Cond.instanceMethod ({ cls := "ElephantEdgeModel", name := "tryFence", desc := "(III)V" } : Jvm.MethodName)) ∈ lw_all := lw_g (lw_at lw_m9 232 rfl) rfl
theorem q2263 : (Jvm.Cond.code ({ cls := "ElephantEdgeModel", name := "tryFence", desc := "(III)V" } : Jvm.MethodName) prog_23_method_65_code (4 : Nat) (Option.none : Option Jvm.ClassFile.FieldType)) ∈ lw_all := lw_g (lw_at lw_m9 233 rfl) rfl
theorem q2264 : (Jvm.Cond.methodLink "ElephantEdgeModel" (443 : Nat) ({ cls := "ElephantEdgeModel", name := "isOfTwelve", desc := "(I)Z" } : Jvm.MethodName)) ∈ lw_all := lw_g (lw_at lw_m9 234 rfl) rfl
theorem q2265 : (Jvm.Cond.privateMethod ({ cls := "ElephantEdgeModel", name := "isOfTwelve", desc := "(I)Z" } : Jvm.MethodName)) ∈ lw_tbl := lw_at lw_m9 235 rfl
theorem q2266 : (Jvm.Cond.instanceMethod ({ cls := "ElephantEdgeModel", name := "isOfTwelve", desc := "(I)Z" } : Jvm.MethodName)) ∈ lw_all := lw_g (lw_at lw_m9 236 rfl) rfl
theorem q2267 : (Jvm.Cond.code ({ cls := "ElephantEdgeModel", name := "isOfTwelve", desc := "(I)Z" } : Jvm.MethodName) prog_23_method_64_code (3 : Nat) (Option.some Jvm.ClassFile.FieldType.boolean)) ∈ lw_all := lw_g (lw_at lw_m9 237 rfl) rfl
theorem q2269 : (Jvm.Cond.instanceMethod ({ cls := "ElephantEdgeModel", name := "night", desc := "()I" } : Jvm.MethodName)) ∈ lw_all := lw_g (lw_at lw_m9 239 rfl) rfl
theorem q2270 : (Jvm.Cond.selects "ElephantEdgeModel" ({ cls := "ElephantEdgeModel", name := "night", desc := "()I" } : Jvm.MethodName) ({ cls := "ElephantEdgeModel", name := "night", desc := "()I" } : Jvm.MethodName)) ∈ lw_all := lw_g (lw_at lw_m10 0 rfl) rfl
theorem q2271 : (Jvm.Cond.code ({ cls := "ElephantEdgeModel", name := "night", desc := "()I" } : Jvm.MethodName) prog_23_method_68_code (4 : Nat) (Option.some Jvm.ClassFile.FieldType.int)) ∈ lw_all := lw_g (lw_at lw_m10 1 rfl) rfl
theorem q2272 : (Jvm.Cond.methodLink "ElephantEdgeModel" (462 : Nat) ({ cls := "ElephantEdgeModel", name := "without", desc := "(I)I" } : Jvm.MethodName)) ∈ lw_all := lw_g (lw_at lw_m10 2 rfl) rfl
theorem q2273 : (Jvm.Cond.privateMethod ({ cls := "ElephantEdgeModel", name := "without", desc := "(I)I" } : Jvm.MethodName)) ∈ lw_tbl := lw_at lw_m10 3 rfl
theorem q2274 : (Jvm.Cond.instanceMethod ({ cls := "ElephantEdgeModel", name := "without", desc := "(I)I" } : Jvm.MethodName)) ∈ lw_all := lw_g (lw_at lw_m10 4 rfl) rfl
theorem q2275 : (Jvm.Cond.code ({ cls := "ElephantEdgeModel", name := "without", desc := "(I)I" } : Jvm.MethodName) prog_23_method_69_code (3 : Nat) (Option.some Jvm.ClassFile.FieldType.int)) ∈ lw_all := lw_g (lw_at lw_m10 5 rfl) rfl
theorem q2276 : (Jvm.Cond.methodLink "ElephantEdgeModel" (466 : Nat) ({ cls := "ElephantEdgeModel", name := "lostOf", desc := "(I)I" } : Jvm.MethodName)) ∈ lw_all := lw_g (lw_at lw_m10 6 rfl) rfl
theorem q2277 : (Jvm.Cond.privateMethod ({ cls := "ElephantEdgeModel", name := "lostOf", desc := "(I)I" } : Jvm.MethodName)) ∈ lw_tbl := lw_at lw_m10 7 rfl
theorem q2278 : (Jvm.Cond.instanceMethod ({ cls := "ElephantEdgeModel", name := "lostOf", desc := "(I)I" } : Jvm.MethodName)) ∈ lw_all := lw_g (lw_at lw_m10 8 rfl) rfl
theorem q2279 : (Jvm.Cond.code ({ cls := "ElephantEdgeModel", name := "lostOf", desc := "(I)I" } : Jvm.MethodName) prog_23_method_67_code (4 : Nat) (Option.some Jvm.ClassFile.FieldType.int)) ∈ lw_all := lw_g (lw_at lw_m10 9 rfl) rfl
theorem q2280 : (Jvm.Cond.methodLink "ElephantEdgeModel" (472 : Nat) ({ cls := "ElephantEdgeModel", name := "claims", desc := "(II)V" } : Jvm.MethodName)) ∈ lw_all := lw_g (lw_at lw_m10 10 rfl) rfl
theorem q2281 : (Jvm.Cond.privateMethod ({ cls := "ElephantEdgeModel", name := "claims", desc := "(II)V" } : Jvm.MethodName)) ∈ lw_tbl := lw_at lw_m10 11 rfl
theorem q2282 : (Jvm.Cond.instanceMethod ({ cls := "ElephantEdgeModel", name := "claims", desc := "(II)V" } : Jvm.MethodName)) ∈ lw_all := lw_g (lw_at lw_m10 12 rfl) rfl
theorem q2283 : (Jvm.Cond.code ({ cls := "ElephantEdgeModel", name := "claims", desc := "(II)V" } : Jvm.MethodName) prog_23_method_70_code (3 : Nat) (Option.none : Option Jvm.ClassFile.FieldType)) ∈ lw_all := lw_g (lw_at lw_m10 13 rfl) rfl
theorem q2284 : (Jvm.Cond.methodLink "ElephantEdgeModel" (477 : Nat) ({ cls := "ElephantEdgeModel", name := "rowAdds", desc := "(II)V" } : Jvm.MethodName)) ∈ lw_all := lw_g (lw_at lw_m10 14 rfl) rfl
theorem q2285 : (Jvm.Cond.privateMethod ({ cls := "ElephantEdgeModel", name := "rowAdds", desc := "(II)V" } : Jvm.MethodName)) ∈ lw_tbl := lw_at lw_m10 15 rfl
theorem q2286 : (Jvm.Cond.instanceMethod ({ cls := "ElephantEdgeModel", name := "rowAdds", desc := "(II)V" } : Jvm.MethodName)) ∈ lw_all := lw_g (lw_at lw_m10 16 rfl) rfl
theorem q2287 : (Jvm.Cond.code ({ cls := "ElephantEdgeModel", name := "rowAdds", desc := "(II)V" } : Jvm.MethodName) prog_23_method_90_code (3 : Nat) (Option.none : Option Jvm.ClassFile.FieldType)) ∈ lw_all := lw_g (lw_at lw_m10 17 rfl) rfl
theorem q2289 : (Jvm.Cond.instanceMethod ({ cls := "ElephantEdgeModel", name := "debt", desc := "(I)I" } : Jvm.MethodName)) ∈ lw_all := lw_g (lw_at lw_m10 19 rfl) rfl
theorem q2290 : (Jvm.Cond.selects "ElephantEdgeModel" ({ cls := "ElephantEdgeModel", name := "debt", desc := "(I)I" } : Jvm.MethodName) ({ cls := "ElephantEdgeModel", name := "debt", desc := "(I)I" } : Jvm.MethodName)) ∈ lw_all := lw_g (lw_at lw_m10 20 rfl) rfl
theorem q2291 : (Jvm.Cond.code ({ cls := "ElephantEdgeModel", name := "debt", desc := "(I)I" } : Jvm.MethodName) prog_23_method_71_code (2 : Nat) (Option.some Jvm.ClassFile.FieldType.int)) ∈ lw_all := lw_g (lw_at lw_m10 21 rfl) rfl
theorem q2293 : (Jvm.Cond.instanceMethod ({ cls := "ElephantEdgeModel", name := "watch", desc := "(II)I" } : Jvm.MethodName)) ∈ lw_all := lw_g (lw_at lw_m10 23 rfl) rfl
theorem q2294 : (Jvm.Cond.selects "ElephantEdgeModel" ({ cls := "ElephantEdgeModel", name := "watch", desc := "(II)I" } : Jvm.MethodName) ({ cls := "ElephantEdgeModel", name := "watch", desc := "(II)I" } : Jvm.MethodName)) ∈ lw_all := lw_g (lw_at lw_m10 24 rfl) rfl
theorem q2295 : (Jvm.Cond.code ({ cls := "ElephantEdgeModel", name := "watch", desc := "(II)I" } : Jvm.MethodName) prog_23_method_73_code (3 : Nat) (Option.some Jvm.ClassFile.FieldType.int)) ∈ lw_all := lw_g (lw_at lw_m10 25 rfl) rfl
theorem q2296 : (Jvm.Cond.methodLink "ElephantEdgeModel" (480 : Nat) ({ cls := "ElephantEdgeModel", name := "toldNow", desc := "()I" } : Jvm.MethodName)) ∈ lw_all := lw_g (lw_at lw_m10 26 rfl) rfl
theorem q2297 : (Jvm.Cond.privateMethod ({ cls := "ElephantEdgeModel", name := "toldNow", desc := "()I" } : Jvm.MethodName)) ∈ lw_tbl := lw_at lw_m10 27 rfl
theorem q2298 : (Jvm.Cond.instanceMethod ({ cls := "ElephantEdgeModel", name := "toldNow", desc := "()I" } : Jvm.MethodName)) ∈ lw_all := lw_g (lw_at lw_m10 28 rfl) rfl
theorem q2299 : (Jvm.Cond.code ({ cls := "ElephantEdgeModel", name := "toldNow", desc := "()I" } : Jvm.MethodName) prog_23_method_72_code (3 : Nat) (Option.some Jvm.ClassFile.FieldType.int)) ∈ lw_all := lw_g (lw_at lw_m10 29 rfl) rfl
theorem q2301 : (Jvm.Cond.instanceMethod ({ cls := "ElephantEdgeModel", name := "turn", desc := "(I)I" } : Jvm.MethodName)) ∈ lw_all := lw_g (lw_at lw_m10 31 rfl) rfl
theorem q2302 : (Jvm.Cond.selects "ElephantEdgeModel" ({ cls := "ElephantEdgeModel", name := "turn", desc := "(I)I" } : Jvm.MethodName) ({ cls := "ElephantEdgeModel", name := "turn", desc := "(I)I" } : Jvm.MethodName)) ∈ lw_all := lw_g (lw_at lw_m10 32 rfl) rfl
theorem q2303 : (Jvm.Cond.code ({ cls := "ElephantEdgeModel", name := "turn", desc := "(I)I" } : Jvm.MethodName) prog_23_method_75_code (5 : Nat) (Option.some Jvm.ClassFile.FieldType.int)) ∈ lw_all := lw_g (lw_at lw_m10 33 rfl) rfl
theorem q2304 : (Jvm.Cond.methodLink "ElephantEdgeModel" (483 : Nat) ({ cls := "ElephantEdgeModel", name := "isFree", desc := "(I)Z" } : Jvm.MethodName)) ∈ lw_all := lw_g (lw_at lw_m10 34 rfl) rfl
theorem q2305 : (Jvm.Cond.privateMethod ({ cls := "ElephantEdgeModel", name := "isFree", desc := "(I)Z" } : Jvm.MethodName)) ∈ lw_tbl := lw_at lw_m10 35 rfl
theorem q2306 : (Jvm.Cond.instanceMethod ({ cls := "ElephantEdgeModel", name := "isFree", desc := "(I)Z" } : Jvm.MethodName)) ∈ lw_all := lw_g (lw_at lw_m10 36 rfl) rfl
theorem q2307 : (Jvm.Cond.code ({ cls := "ElephantEdgeModel", name := "isFree", desc := "(I)Z" } : Jvm.MethodName) prog_23_method_74_code (2 : Nat) (Option.some Jvm.ClassFile.FieldType.boolean)) ∈ lw_all := lw_g (lw_at lw_m10 37 rfl) rfl
theorem q2309 : (Jvm.Cond.instanceMethod ({ cls := "ElephantEdgeModel", name := "watched", desc := "(I)I" } : Jvm.MethodName)) ∈ lw_all := lw_g (lw_at lw_m10 39 rfl) rfl
theorem q2310 : (Jvm.Cond.selects "ElephantEdgeModel" ({ cls := "ElephantEdgeModel", name := "watched", desc := "(I)I" } : Jvm.MethodName) ({ cls := "ElephantEdgeModel", name := "watched", desc := "(I)I" } : Jvm.MethodName)) ∈ lw_all := lw_g (lw_at lw_m10 40 rfl) rfl
theorem q2311 : (Jvm.Cond.code ({ cls := "ElephantEdgeModel", name := "watched", desc := "(I)I" } : Jvm.MethodName) prog_23_method_76_code (2 : Nat) (Option.some Jvm.ClassFile.FieldType.int)) ∈ lw_all := lw_g (lw_at lw_m10 41 rfl) rfl
theorem q2313 : (Jvm.Cond.instanceMethod ({ cls := "ElephantEdgeModel", name := "post", desc := "(II)I" } : Jvm.MethodName)) ∈ lw_all := lw_g (lw_at lw_m10 43 rfl) rfl
theorem q2314 : (Jvm.Cond.selects "ElephantEdgeModel" ({ cls := "ElephantEdgeModel", name := "post", desc := "(II)I" } : Jvm.MethodName) ({ cls := "ElephantEdgeModel", name := "post", desc := "(II)I" } : Jvm.MethodName)) ∈ lw_all := lw_g (lw_at lw_m10 44 rfl) rfl
theorem q2315 : (Jvm.Cond.code ({ cls := "ElephantEdgeModel", name := "post", desc := "(II)I" } : Jvm.MethodName) prog_23_method_78_code (4 : Nat) (Option.some Jvm.ClassFile.FieldType.int)) ∈ lw_all := lw_g (lw_at lw_m10 45 rfl) rfl
theorem q2316 : (Jvm.Cond.methodLink "ElephantEdgeModel" (493 : Nat) ({ cls := "ElephantEdgeModel", name := "tryPosts", desc := "(III)V" } : Jvm.MethodName)) ∈ lw_all := lw_g (lw_at lw_m10 46 rfl) rfl
theorem q2317 : (Jvm.Cond.privateMethod ({ cls := "ElephantEdgeModel", name := "tryPosts", desc := "(III)V" } : Jvm.MethodName)) ∈ lw_tbl := lw_at lw_m10 47 rfl
theorem q2318 : (Jvm.Cond.instanceMethod ({ cls := "ElephantEdgeModel", name := "tryPosts", desc := "(III)V" } : Jvm.MethodName)) ∈ lw_all := lw_g (lw_at lw_m10 48 rfl) rfl
theorem q2319 : (Jvm.Cond.code ({ cls := "ElephantEdgeModel", name := "tryPosts", desc := "(III)V" } : Jvm.MethodName) prog_23_method_77_code (5 : Nat) (Option.none : Option Jvm.ClassFile.FieldType)) ∈ lw_all := lw_g (lw_at lw_m10 49 rfl) rfl
theorem q2321 : (Jvm.Cond.instanceMethod ({ cls := "ElephantEdgeModel", name := "join", desc := "(IZ)I" } : Jvm.MethodName)) ∈ lw_all := lw_g (lw_at lw_m10 51 rfl) rfl
theorem q2322 : (Jvm.Cond.selects "ElephantEdgeModel" ({ cls := "ElephantEdgeModel", name := "join", desc := "(IZ)I" } : Jvm.MethodName) ({ cls := "ElephantEdgeModel", name := "join", desc := "(IZ)I" } : Jvm.MethodName)) ∈ lw_all := lw_g (lw_at lw_m10 52 rfl) rfl
theorem q2323 : (Jvm.Cond.code ({ cls := "ElephantEdgeModel", name := "join", desc := "(IZ)I" } : Jvm.MethodName) prog_23_method_80_code (3 : Nat) (Option.some Jvm.ClassFile.FieldType.int)) ∈ lw_all := lw_g (lw_at lw_m10 53 rfl) rfl
theorem q2324 : (Jvm.Cond.methodLink "ElephantEdgeModel" (499 : Nat) ({ cls := "ElephantEdgeModel", name := "bits", desc := "(I)I" } : Jvm.MethodName)) ∈ lw_all := lw_g (lw_at lw_m10 54 rfl) rfl
theorem q2325 : (Jvm.Cond.static ({ cls := "ElephantEdgeModel", name := "bits", desc := "(I)I" } : Jvm.MethodName)) ∈ lw_all := lw_g (lw_at lw_m10 55 rfl) rfl
theorem q2326 : (Jvm.Cond.code ({ cls := "ElephantEdgeModel", name := "bits", desc := "(I)I" } : Jvm.MethodName) prog_23_method_79_code (3 : Nat) (Option.some Jvm.ClassFile.FieldType.int)) ∈ lw_all := lw_g (lw_at lw_m10 56 rfl) rfl
theorem q2328 : (Jvm.Cond.instanceMethod ({ cls := "ElephantEdgeModel", name := "away", desc := "(IIZ)Z" } : Jvm.MethodName)) ∈ lw_all := lw_g (lw_at lw_m10 58 rfl) rfl
theorem q2329 : (Jvm.Cond.selects "ElephantEdgeModel" ({ cls := "ElephantEdgeModel", name := "away", desc := "(IIZ)Z" } : Jvm.MethodName) ({ cls := "ElephantEdgeModel", name := "away", desc := "(IIZ)Z" } : Jvm.MethodName)) ∈ lw_all := lw_g (lw_at lw_m10 59 rfl) rfl
theorem q2330 : (Jvm.Cond.code ({ cls := "ElephantEdgeModel", name := "away", desc := "(IIZ)Z" } : Jvm.MethodName) prog_23_method_81_code (5 : Nat) (Option.some Jvm.ClassFile.FieldType.boolean)) ∈ lw_all := lw_g (lw_at lw_m10 60 rfl) rfl
theorem q2332 : (Jvm.Cond.instanceMethod ({ cls := "ElephantEdgeModel", name := "rota", desc := "(IIII)I" } : Jvm.MethodName)) ∈ lw_all := lw_g (lw_at lw_m10 62 rfl) rfl
theorem q2333 : (Jvm.Cond.selects "ElephantEdgeModel" ({ cls := "ElephantEdgeModel", name := "rota", desc := "(IIII)I" } : Jvm.MethodName) ({ cls := "ElephantEdgeModel", name := "rota", desc := "(IIII)I" } : Jvm.MethodName)) ∈ lw_all := lw_g (lw_at lw_m10 63 rfl) rfl
theorem q2334 : (Jvm.Cond.code ({ cls := "ElephantEdgeModel", name := "rota", desc := "(IIII)I" } : Jvm.MethodName) prog_23_method_88_code (7 : Nat) (Option.some Jvm.ClassFile.FieldType.int)) ∈ lw_all := lw_g (lw_at lw_m10 64 rfl) rfl
theorem q2335 : (Jvm.Cond.methodLink "ElephantEdgeModel" (527 : Nat) ({ cls := "ElephantEdgeModel", name := "findRota", desc := "(II)V" } : Jvm.MethodName)) ∈ lw_all := lw_g (lw_at lw_m10 65 rfl) rfl
theorem q2336 : (Jvm.Cond.privateMethod ({ cls := "ElephantEdgeModel", name := "findRota", desc := "(II)V" } : Jvm.MethodName)) ∈ lw_tbl := lw_at lw_m10 66 rfl
theorem q2337 : (Jvm.Cond.instanceMethod ({ cls := "ElephantEdgeModel", name := "findRota", desc := "(II)V" } : Jvm.MethodName)) ∈ lw_all := lw_g (lw_at lw_m10 67 rfl) rfl
theorem q2338 : (Jvm.Cond.code ({ cls := "ElephantEdgeModel", name := "findRota", desc := "(II)V" } : Jvm.MethodName) prog_23_method_87_code (4 : Nat) (Option.none : Option Jvm.ClassFile.FieldType)) ∈ lw_all := lw_g (lw_at lw_m10 68 rfl) rfl
theorem q2339 : (Jvm.Cond.methodLink "ElephantEdgeModel" (523 : Nat) ({ cls := "ElephantEdgeModel", name := "tryRota", desc := "(IIII)V" } : Jvm.MethodName)) ∈ lw_all := lw_g (lw_at lw_m10 69 rfl) rfl
theorem q2340 : (Jvm.Cond.privateMethod ({ cls := "ElephantEdgeModel", name := "tryRota", desc := "(IIII)V" } : Jvm.MethodName)) ∈ lw_tbl := lw_at lw_m10 70 rfl
theorem q2341 : (Jvm.Cond.instanceMethod ({ cls := "ElephantEdgeModel", name := "tryRota", desc := "(IIII)V" } : Jvm.MethodName)) ∈ lw_all := lw_g (lw_at lw_m10 71 rfl) rfl
theorem q2342 : (Jvm.Cond.code ({ cls := "ElephantEdgeModel", name := "tryRota", desc := "(IIII)V" } : Jvm.MethodName) prog_23_method_86_code (8 : Nat) (Option.none : Option Jvm.ClassFile.FieldType)) ∈ lw_all := lw_g (lw_at lw_m10 72 rfl) rfl
theorem q2343 : (Jvm.Cond.methodLink "ElephantEdgeModel" (517 : Nat) ({ cls := "ElephantEdgeModel", name := "endsRota", desc := "(I)V" } : Jvm.MethodName)) ∈ lw_all := lw_g (lw_at lw_m10 73 rfl) rfl
theorem q2344 : (Jvm.Cond.privateMethod ({ cls := "ElephantEdgeModel", name := "endsRota", desc := "(I)V" } : Jvm.MethodName)) ∈ lw_tbl := lw_at lw_m10 74 rfl
theorem q2345 : (Jvm.Cond.instanceMethod ({ cls := "ElephantEdgeModel", name := "endsRota", desc := "(I)V" } : Jvm.MethodName)) ∈ lw_all := lw_g (lw_at lw_m10 75 rfl) rfl
theorem q2346 : (Jvm.Cond.code ({ cls := "ElephantEdgeModel", name := "endsRota", desc := "(I)V" } : Jvm.MethodName) prog_23_method_84_code (6 : Nat) (Option.none : Option Jvm.ClassFile.FieldType)) ∈ lw_all := lw_g (lw_at lw_m10 76 rfl) rfl
theorem q2347 : (Jvm.Cond.methodLink "ElephantEdgeModel" (511 : Nat) ({ cls := "ElephantEdgeModel", name := "isFirst", desc := "(I)Z" } : Jvm.MethodName)) ∈ lw_all := lw_g (lw_at lw_m10 77 rfl) rfl
theorem q2348 : (Jvm.Cond.privateMethod ({ cls := "ElephantEdgeModel", name := "isFirst", desc := "(I)Z" } : Jvm.MethodName)) ∈ lw_tbl := lw_at lw_m10 78 rfl
theorem q2349 : (Jvm.Cond.instanceMethod ({ cls := "ElephantEdgeModel", name := "isFirst", desc := "(I)Z" } : Jvm.MethodName)) ∈ lw_all := lw_g (lw_at lw_m10 79 rfl) rfl
theorem q2350 : (Jvm.Cond.code ({ cls := "ElephantEdgeModel", name := "isFirst", desc := "(I)Z" } : Jvm.MethodName) prog_23_method_85_code (3 : Nat) (Option.some Jvm.ClassFile.FieldType.boolean)) ∈ lw_all := lw_g (lw_at lw_m10 80 rfl) rfl
theorem q2351 : (Jvm.Cond.methodLink "ElephantEdgeModel" (514 : Nat) ({ cls := "ElephantEdgeModel", name := "isAhead", desc := "(II)Z" } : Jvm.MethodName)) ∈ lw_all := lw_g (lw_at lw_m10 81 rfl) rfl
theorem q2352 : (Jvm.Cond.static ({ cls := "ElephantEdgeModel", name := "isAhead", desc := "(II)Z" } : Jvm.MethodName)) ∈ lw_all := lw_g (lw_at lw_m10 82 rfl) rfl
theorem q2353 : (Jvm.Cond.code ({ cls := "ElephantEdgeModel", name := "isAhead", desc := "(II)Z" } : Jvm.MethodName) prog_23_method_82_code (3 : Nat) (Option.some Jvm.ClassFile.FieldType.boolean)) ∈ lw_all := lw_g (lw_at lw_m10 83 rfl) rfl
theorem q2354 : (Jvm.Cond.methodLink "ElephantEdgeModel" (520 : Nat) ({ cls := "ElephantEdgeModel", name := "freeIn", desc := "(I)I" } : Jvm.MethodName)) ∈ lw_all := lw_g (lw_at lw_m10 84 rfl) rfl
theorem q2355 : (Jvm.Cond.privateMethod ({ cls := "ElephantEdgeModel", name := "freeIn", desc := "(I)I" } : Jvm.MethodName)) ∈ lw_tbl := lw_at lw_m10 85 rfl
theorem q2356 : (Jvm.Cond.instanceMethod ({ cls := "ElephantEdgeModel", name := "freeIn", desc := "(I)I" } : Jvm.MethodName)) ∈ lw_all := lw_g (lw_at lw_m10 86 rfl) rfl
theorem q2357 : (Jvm.Cond.code ({ cls := "ElephantEdgeModel", name := "freeIn", desc := "(I)I" } : Jvm.MethodName) prog_23_method_83_code (4 : Nat) (Option.some Jvm.ClassFile.FieldType.int)) ∈ lw_all := lw_g (lw_at lw_m10 87 rfl) rfl
theorem q2359 : (Jvm.Cond.instanceMethod ({ cls := "ElephantEdgeModel", name := "loads", desc := "(II)I" } : Jvm.MethodName)) ∈ lw_all := lw_g (lw_at lw_m10 89 rfl) rfl
theorem q2360 : (Jvm.Cond.selects "ElephantEdgeModel" ({ cls := "ElephantEdgeModel", name := "loads", desc := "(II)I" } : Jvm.MethodName) ({ cls := "ElephantEdgeModel", name := "loads", desc := "(II)I" } : Jvm.MethodName)) ∈ lw_all := lw_g (lw_at lw_m10 90 rfl) rfl
theorem q2361 : (Jvm.Cond.code ({ cls := "ElephantEdgeModel", name := "loads", desc := "(II)I" } : Jvm.MethodName) prog_23_method_89_code (3 : Nat) (Option.some Jvm.ClassFile.FieldType.int)) ∈ lw_all := lw_g (lw_at lw_m10 91 rfl) rfl
theorem q2363 : (Jvm.Cond.instanceMethod ({ cls := "ElephantEdgeModel", name := "find", desc := "(II)I" } : Jvm.MethodName)) ∈ lw_all := lw_g (lw_at lw_m10 93 rfl) rfl
theorem q2364 : (Jvm.Cond.selects "ElephantEdgeModel" ({ cls := "ElephantEdgeModel", name := "find", desc := "(II)I" } : Jvm.MethodName) ({ cls := "ElephantEdgeModel", name := "find", desc := "(II)I" } : Jvm.MethodName)) ∈ lw_all := lw_g (lw_at lw_m10 94 rfl) rfl
theorem q2365 : (Jvm.Cond.code ({ cls := "ElephantEdgeModel", name := "find", desc := "(II)I" } : Jvm.MethodName) prog_23_method_94_code (3 : Nat) (Option.some Jvm.ClassFile.FieldType.int)) ∈ lw_all := lw_g (lw_at lw_m10 95 rfl) rfl
theorem q2366 : (Jvm.Cond.methodLink "ElephantEdgeModel" (533 : Nat) ({ cls := "ElephantEdgeModel", name := "isClaim", desc := "(I)Z" } : Jvm.MethodName)) ∈ lw_all := lw_g (lw_at lw_m10 96 rfl) rfl
theorem q2367 : (Jvm.Cond.privateMethod ({ cls := "ElephantEdgeModel", name := "isClaim", desc := "(I)Z" } : Jvm.MethodName)) ∈ lw_tbl := lw_at lw_m10 97 rfl
theorem q2368 : (Jvm.Cond.instanceMethod ({ cls := "ElephantEdgeModel", name := "isClaim", desc := "(I)Z" } : Jvm.MethodName)) ∈ lw_all := lw_g (lw_at lw_m10 98 rfl) rfl
theorem q2369 : (Jvm.Cond.code ({ cls := "ElephantEdgeModel", name := "isClaim", desc := "(I)Z" } : Jvm.MethodName) prog_23_method_93_code (2 : Nat) (Option.some Jvm.ClassFile.FieldType.boolean)) ∈ lw_all := lw_g (lw_at lw_m10 99 rfl) rfl
theorem q2370 : (Jvm.Cond.constant "ElephantEdgeModel" (536 : Nat) (100000 : Int32)) ∈ lw_all := lw_g (lw_at lw_m10 100 rfl) rfl
theorem q2371 : (Jvm.Cond.methodLink "ElephantEdgeModel" (540 : Nat) ({ cls := "ElephantEdgeModel", name := "rowsOf", desc := "(I)I" } : Jvm.MethodName)) ∈ lw_all := lw_g (lw_at lw_m10 101 rfl) rfl
theorem q2372 : (Jvm.Cond.privateMethod ({ cls := "ElephantEdgeModel", name := "rowsOf", desc := "(I)I" } : Jvm.MethodName)) ∈ lw_tbl := lw_at lw_m10 102 rfl
theorem q2373 : (Jvm.Cond.instanceMethod ({ cls := "ElephantEdgeModel", name := "rowsOf", desc := "(I)I" } : Jvm.MethodName)) ∈ lw_all := lw_g (lw_at lw_m10 103 rfl) rfl
theorem q2374 : (Jvm.Cond.code ({ cls := "ElephantEdgeModel", name := "rowsOf", desc := "(I)I" } : Jvm.MethodName) prog_23_method_92_code (4 : Nat) (Option.some Jvm.ClassFile.FieldType.int)) ∈ lw_all := lw_g (lw_at lw_m10 104 rfl) rfl
theorem q2376 : (Jvm.Cond.instanceMethod ({ cls := "ElephantEdgeModel", name := "harm", desc := "(IIII)I" } : Jvm.MethodName)) ∈ lw_all := lw_g (lw_at lw_m10 106 rfl) rfl
theorem q2377 : (Jvm.Cond.selects "ElephantEdgeModel" ({ cls := "ElephantEdgeModel", name := "harm", desc := "(IIII)I" } : Jvm.MethodName) ({ cls := "ElephantEdgeModel", name := "harm", desc := "(IIII)I" } : Jvm.MethodName)) ∈ lw_all := lw_g (lw_at lw_m10 107 rfl) rfl
theorem q2378 : (Jvm.Cond.code ({ cls := "ElephantEdgeModel", name := "harm", desc := "(IIII)I" } : Jvm.MethodName) prog_23_method_95_code (7 : Nat) (Option.some Jvm.ClassFile.FieldType.int)) ∈ lw_all := lw_g (lw_at lw_m10 108 rfl) rfl
theorem q2379 : (Jvm.Cond.methodLink "ElephantEdgeModel" (543 : Nat) ({ cls := "ElephantEdgeModel", name := "latest", desc := "(II)I" } : Jvm.MethodName)) ∈ lw_all := lw_g (lw_at lw_m10 109 rfl) rfl
theorem q2380 : (Jvm.Cond.privateMethod ({ cls := "ElephantEdgeModel", name := "latest", desc := "(II)I" } : Jvm.MethodName)) ∈ lw_tbl := lw_at lw_m10 110 rfl
theorem q2381 : (Jvm.Cond.instanceMethod ({ cls := "ElephantEdgeModel", name := "latest", desc := "(II)I" } : Jvm.MethodName)) ∈ lw_all := lw_g (lw_at lw_m10 111 rfl) rfl
theorem q2382 : (Jvm.Cond.code ({ cls := "ElephantEdgeModel", name := "latest", desc := "(II)I" } : Jvm.MethodName) prog_23_method_91_code (5 : Nat) (Option.some Jvm.ClassFile.FieldType.int)) ∈ lw_all := lw_g (lw_at lw_m10 112 rfl) rfl
theorem q2384 : (Jvm.Cond.instanceMethod ({ cls := "ElephantEdgeModel", name := "fund", desc := "(I)I" } : Jvm.MethodName)) ∈ lw_all := lw_g (lw_at lw_m10 114 rfl) rfl
theorem q2385 : (Jvm.Cond.selects "ElephantEdgeModel" ({ cls := "ElephantEdgeModel", name := "fund", desc := "(I)I" } : Jvm.MethodName) ({ cls := "ElephantEdgeModel", name := "fund", desc := "(I)I" } : Jvm.MethodName)) ∈ lw_all := lw_g (lw_at lw_m10 115 rfl) rfl
theorem q2386 : (Jvm.Cond.code ({ cls := "ElephantEdgeModel", name := "fund", desc := "(I)I" } : Jvm.MethodName) prog_23_method_96_code (2 : Nat) (Option.some Jvm.ClassFile.FieldType.int)) ∈ lw_all := lw_g (lw_at lw_m10 116 rfl) rfl
theorem q2387 : (Jvm.Cond.constant "ElephantEdgeModel" (546 : Nat) (1000000 : Int32)) ∈ lw_all := lw_g (lw_at lw_m10 117 rfl) rfl
theorem q2389 : (Jvm.Cond.instanceMethod ({ cls := "ElephantEdgeModel", name := "judge", desc := "(IIII)I" } : Jvm.MethodName)) ∈ lw_all := lw_g (lw_at lw_m10 119 rfl) rfl
theorem q2390 : (Jvm.Cond.selects "ElephantEdgeModel" ({ cls := "ElephantEdgeModel", name := "judge", desc := "(IIII)I" } : Jvm.MethodName) ({ cls := "ElephantEdgeModel", name := "judge", desc := "(IIII)I" } : Jvm.MethodName)) ∈ lw_all := lw_g (lw_at lw_m10 120 rfl) rfl
theorem q2391 : (Jvm.Cond.code ({ cls := "ElephantEdgeModel", name := "judge", desc := "(IIII)I" } : Jvm.MethodName) prog_23_method_100_code (8 : Nat) (Option.some Jvm.ClassFile.FieldType.int)) ∈ lw_all := lw_g (lw_at lw_m10 121 rfl) rfl
theorem q2392 : (Jvm.Cond.methodLink "ElephantEdgeModel" (554 : Nat) ({ cls := "ElephantEdgeModel", name := "middle", desc := "(III)I" } : Jvm.MethodName)) ∈ lw_all := lw_g (lw_at lw_m10 122 rfl) rfl
theorem q2393 : (Jvm.Cond.static ({ cls := "ElephantEdgeModel", name := "middle", desc := "(III)I" } : Jvm.MethodName)) ∈ lw_all := lw_g (lw_at lw_m10 123 rfl) rfl
theorem q2394 : (Jvm.Cond.code ({ cls := "ElephantEdgeModel", name := "middle", desc := "(III)I" } : Jvm.MethodName) prog_23_method_97_code (5 : Nat) (Option.some Jvm.ClassFile.FieldType.int)) ∈ lw_all := lw_g (lw_at lw_m10 124 rfl) rfl
theorem q2395 : (Jvm.Cond.methodLink "ElephantEdgeModel" (557 : Nat) ({ cls := "ElephantEdgeModel", name := "worked", desc := "(IIII)I" } : Jvm.MethodName)) ∈ lw_all := lw_g (lw_at lw_m10 125 rfl) rfl
theorem q2396 : (Jvm.Cond.privateMethod ({ cls := "ElephantEdgeModel", name := "worked", desc := "(IIII)I" } : Jvm.MethodName)) ∈ lw_tbl := lw_at lw_m10 126 rfl
theorem q2397 : (Jvm.Cond.instanceMethod ({ cls := "ElephantEdgeModel", name := "worked", desc := "(IIII)I" } : Jvm.MethodName)) ∈ lw_all := lw_g (lw_at lw_m10 127 rfl) rfl
theorem q2398 : (Jvm.Cond.code ({ cls := "ElephantEdgeModel", name := "worked", desc := "(IIII)I" } : Jvm.MethodName) prog_23_method_98_code (11 : Nat) (Option.some Jvm.ClassFile.FieldType.int)) ∈ lw_all := lw_g (lw_at lw_m10 128 rfl) rfl
theorem q2399 : (Jvm.Cond.methodLink "ElephantEdgeModel" (550 : Nat) ({ cls := "ElephantEdgeModel", name := "two", desc := "(III)I" } : Jvm.MethodName)) ∈ lw_all := lw_g (lw_at lw_m10 129 rfl) rfl
theorem q2400 : (Jvm.Cond.static ({ cls := "ElephantEdgeModel", name := "two", desc := "(III)I" } : Jvm.MethodName)) ∈ lw_all := lw_g (lw_at lw_m10 130 rfl) rfl
theorem q2401 : (Jvm.Cond.code ({ cls := "ElephantEdgeModel", name := "two", desc := "(III)I" } : Jvm.MethodName) prog_23_method_99_code (3 : Nat) (Option.some Jvm.ClassFile.FieldType.int)) ∈ lw_all := lw_g (lw_at lw_m10 131 rfl) rfl
theorem q2403 : (Jvm.Cond.instanceMethod ({ cls := "ElephantEdgeModel", name := "claim", desc := "(II)I" } : Jvm.MethodName)) ∈ lw_all := lw_g (lw_at lw_m10 133 rfl) rfl
theorem q2404 : (Jvm.Cond.selects "ElephantEdgeModel" ({ cls := "ElephantEdgeModel", name := "claim", desc := "(II)I" } : Jvm.MethodName) ({ cls := "ElephantEdgeModel", name := "claim", desc := "(II)I" } : Jvm.MethodName)) ∈ lw_all := lw_g (lw_at lw_m10 134 rfl) rfl
theorem q2405 : (Jvm.Cond.code ({ cls := "ElephantEdgeModel", name := "claim", desc := "(II)I" } : Jvm.MethodName) prog_23_method_101_code (3 : Nat) (Option.some Jvm.ClassFile.FieldType.int)) ∈ lw_all := lw_g (lw_at lw_m10 135 rfl) rfl
theorem q2407 : (Jvm.Cond.instanceMethod ({ cls := "ElephantEdgeModel", name := "fix", desc := "(III)I" } : Jvm.MethodName)) ∈ lw_all := lw_g (lw_at lw_m10 137 rfl) rfl
theorem q2408 : (Jvm.Cond.selects "ElephantEdgeModel" ({ cls := "ElephantEdgeModel", name := "fix", desc := "(III)I" } : Jvm.MethodName) ({ cls := "ElephantEdgeModel", name := "fix", desc := "(III)I" } : Jvm.MethodName)) ∈ lw_all := lw_g (lw_at lw_m10 138 rfl) rfl
theorem q2409 : (Jvm.Cond.code ({ cls := "ElephantEdgeModel", name := "fix", desc := "(III)I" } : Jvm.MethodName) prog_23_method_104_code (5 : Nat) (Option.some Jvm.ClassFile.FieldType.int)) ∈ lw_all := lw_g (lw_at lw_m10 139 rfl) rfl
theorem q2410 : (Jvm.Cond.methodLink "ElephantEdgeModel" (561 : Nat) ({ cls := "ElephantEdgeModel", name := "isHour", desc := "(I)Z" } : Jvm.MethodName)) ∈ lw_all := lw_g (lw_at lw_m10 140 rfl) rfl
theorem q2411 : (Jvm.Cond.privateMethod ({ cls := "ElephantEdgeModel", name := "isHour", desc := "(I)Z" } : Jvm.MethodName)) ∈ lw_tbl := lw_at lw_m10 141 rfl
theorem q2412 : (Jvm.Cond.instanceMethod ({ cls := "ElephantEdgeModel", name := "isHour", desc := "(I)Z" } : Jvm.MethodName)) ∈ lw_all := lw_g (lw_at lw_m10 142 rfl) rfl
theorem q2413 : (Jvm.Cond.code ({ cls := "ElephantEdgeModel", name := "isHour", desc := "(I)Z" } : Jvm.MethodName) prog_23_method_103_code (2 : Nat) (Option.some Jvm.ClassFile.FieldType.boolean)) ∈ lw_all := lw_g (lw_at lw_m10 143 rfl) rfl
theorem q2414 : (Jvm.Cond.methodLink "ElephantEdgeModel" (564 : Nat) ({ cls := "ElephantEdgeModel", name := "findSteps", desc := "(I[I)V" } : Jvm.MethodName)) ∈ lw_all := lw_g (lw_at lw_m10 144 rfl) rfl
theorem q2415 : (Jvm.Cond.privateMethod ({ cls := "ElephantEdgeModel", name := "findSteps", desc := "(I[I)V" } : Jvm.MethodName)) ∈ lw_tbl := lw_at lw_m10 145 rfl
theorem q2416 : (Jvm.Cond.instanceMethod ({ cls := "ElephantEdgeModel", name := "findSteps", desc := "(I[I)V" } : Jvm.MethodName)) ∈ lw_all := lw_g (lw_at lw_m10 146 rfl) rfl
theorem q2417 : (Jvm.Cond.code ({ cls := "ElephantEdgeModel", name := "findSteps", desc := "(I[I)V" } : Jvm.MethodName) prog_23_method_102_code (8 : Nat) (Option.none : Option Jvm.ClassFile.FieldType)) ∈ lw_all := lw_g (lw_at lw_m10 147 rfl) rfl
theorem q2419 : (Jvm.Cond.instanceMethod ({ cls := "ElephantEdgeModel", name := "mayBe", desc := "(III)Z" } : Jvm.MethodName)) ∈ lw_all := lw_g (lw_at lw_m10 149 rfl) rfl
theorem q2420 : (Jvm.Cond.selects "ElephantEdgeModel" ({ cls := "ElephantEdgeModel", name := "mayBe", desc := "(III)Z" } : Jvm.MethodName) ({ cls := "ElephantEdgeModel", name := "mayBe", desc := "(III)Z" } : Jvm.MethodName)) ∈ lw_all := lw_g (lw_at lw_m10 150 rfl) rfl
theorem q2421 : (Jvm.Cond.code ({ cls := "ElephantEdgeModel", name := "mayBe", desc := "(III)Z" } : Jvm.MethodName) prog_23_method_106_code (4 : Nat) (Option.some Jvm.ClassFile.FieldType.boolean)) ∈ lw_all := lw_g (lw_at lw_m10 151 rfl) rfl
theorem q2422 : (Jvm.Cond.methodLink "ElephantEdgeModel" (568 : Nat) ({ cls := "ElephantEdgeModel", name := "findWhere", desc := "(II)V" } : Jvm.MethodName)) ∈ lw_all := lw_g (lw_at lw_m10 152 rfl) rfl
theorem q2423 : (Jvm.Cond.privateMethod ({ cls := "ElephantEdgeModel", name := "findWhere", desc := "(II)V" } : Jvm.MethodName)) ∈ lw_tbl := lw_at lw_m10 153 rfl
theorem q2424 : (Jvm.Cond.instanceMethod ({ cls := "ElephantEdgeModel", name := "findWhere", desc := "(II)V" } : Jvm.MethodName)) ∈ lw_all := lw_g (lw_at lw_m10 154 rfl) rfl
theorem q2425 : (Jvm.Cond.code ({ cls := "ElephantEdgeModel", name := "findWhere", desc := "(II)V" } : Jvm.MethodName) prog_23_method_105_code (7 : Nat) (Option.none : Option Jvm.ClassFile.FieldType)) ∈ lw_all := lw_g (lw_at lw_m10 155 rfl) rfl
theorem q2427 : (Jvm.Cond.instanceMethod ({ cls := "ElephantEdgeModel", name := "spots", desc := "(II)I" } : Jvm.MethodName)) ∈ lw_all := lw_g (lw_at lw_m10 157 rfl) rfl
theorem q2428 : (Jvm.Cond.selects "ElephantEdgeModel" ({ cls := "ElephantEdgeModel", name := "spots", desc := "(II)I" } : Jvm.MethodName) ({ cls := "ElephantEdgeModel", name := "spots", desc := "(II)I" } : Jvm.MethodName)) ∈ lw_all := lw_g (lw_at lw_m10 158 rfl) rfl
theorem q2429 : (Jvm.Cond.code ({ cls := "ElephantEdgeModel", name := "spots", desc := "(II)I" } : Jvm.MethodName) prog_23_method_107_code (5 : Nat) (Option.some Jvm.ClassFile.FieldType.int)) ∈ lw_all := lw_g (lw_at lw_m10 159 rfl) rfl
theorem q2431 : (Jvm.Cond.instanceMethod ({ cls := "ElephantEdgeModel", name := "wire", desc := "(III)I" } : Jvm.MethodName)) ∈ lw_all := lw_g (lw_at lw_m10 161 rfl) rfl
theorem q2432 : (Jvm.Cond.selects "ElephantEdgeModel" ({ cls := "ElephantEdgeModel", name := "wire", desc := "(III)I" } : Jvm.MethodName) ({ cls := "ElephantEdgeModel", name := "wire", desc := "(III)I" } : Jvm.MethodName)) ∈ lw_all := lw_g (lw_at lw_m10 162 rfl) rfl
theorem q2433 : (Jvm.Cond.code ({ cls := "ElephantEdgeModel", name := "wire", desc := "(III)I" } : Jvm.MethodName) prog_23_method_108_code (4 : Nat) (Option.some Jvm.ClassFile.FieldType.int)) ∈ lw_all := lw_g (lw_at lw_m10 163 rfl) rfl
theorem q2435 : (Jvm.Cond.instanceMethod ({ cls := "ElephantEdgeModel", name := "wind", desc := "(II)I" } : Jvm.MethodName)) ∈ lw_all := lw_g (lw_at lw_m10 165 rfl) rfl
theorem q2436 : (Jvm.Cond.selects "ElephantEdgeModel" ({ cls := "ElephantEdgeModel", name := "wind", desc := "(II)I" } : Jvm.MethodName) ({ cls := "ElephantEdgeModel", name := "wind", desc := "(II)I" } : Jvm.MethodName)) ∈ lw_all := lw_g (lw_at lw_m10 166 rfl) rfl
theorem q2437 : (Jvm.Cond.code ({ cls := "ElephantEdgeModel", name := "wind", desc := "(II)I" } : Jvm.MethodName) prog_23_method_110_code (5 : Nat) (Option.some Jvm.ClassFile.FieldType.int)) ∈ lw_all := lw_g (lw_at lw_m10 167 rfl) rfl
theorem q2438 : (Jvm.Cond.methodLink "ElephantEdgeModel" (577 : Nat) ({ cls := "ElephantEdgeModel", name := "windAt", desc := "(I)I" } : Jvm.MethodName)) ∈ lw_all := lw_g (lw_at lw_m10 168 rfl) rfl
theorem q2439 : (Jvm.Cond.privateMethod ({ cls := "ElephantEdgeModel", name := "windAt", desc := "(I)I" } : Jvm.MethodName)) ∈ lw_tbl := lw_at lw_m10 169 rfl
theorem q2440 : (Jvm.Cond.instanceMethod ({ cls := "ElephantEdgeModel", name := "windAt", desc := "(I)I" } : Jvm.MethodName)) ∈ lw_all := lw_g (lw_at lw_m10 170 rfl) rfl
theorem q2441 : (Jvm.Cond.code ({ cls := "ElephantEdgeModel", name := "windAt", desc := "(I)I" } : Jvm.MethodName) prog_23_method_109_code (3 : Nat) (Option.some Jvm.ClassFile.FieldType.int)) ∈ lw_all := lw_g (lw_at lw_m10 171 rfl) rfl
theorem q2443 : (Jvm.Cond.instanceMethod ({ cls := "ElephantEdgeModel", name := "trip", desc := "(II)I" } : Jvm.MethodName)) ∈ lw_all := lw_g (lw_at lw_m10 173 rfl) rfl
theorem q2444 : (Jvm.Cond.selects "ElephantEdgeModel" ({ cls := "ElephantEdgeModel", name := "trip", desc := "(II)I" } : Jvm.MethodName) ({ cls := "ElephantEdgeModel", name := "trip", desc := "(II)I" } : Jvm.MethodName)) ∈ lw_all := lw_g (lw_at lw_m10 174 rfl) rfl
theorem q2445 : (Jvm.Cond.code ({ cls := "ElephantEdgeModel", name := "trip", desc := "(II)I" } : Jvm.MethodName) prog_23_method_111_code (3 : Nat) (Option.some Jvm.ClassFile.FieldType.int)) ∈ lw_all := lw_g (lw_at lw_m10 175 rfl) rfl
theorem q2447 : (Jvm.Cond.instanceMethod ({ cls := "ElephantEdgeModel", name := "cause", desc := "(I)I" } : Jvm.MethodName)) ∈ lw_all := lw_g (lw_at lw_m10 177 rfl) rfl
theorem q2448 : (Jvm.Cond.selects "ElephantEdgeModel" ({ cls := "ElephantEdgeModel", name := "cause", desc := "(I)I" } : Jvm.MethodName) ({ cls := "ElephantEdgeModel", name := "cause", desc := "(I)I" } : Jvm.MethodName)) ∈ lw_all := lw_g (lw_at lw_m10 178 rfl) rfl
theorem q2449 : (Jvm.Cond.code ({ cls := "ElephantEdgeModel", name := "cause", desc := "(I)I" } : Jvm.MethodName) prog_23_method_113_code (2 : Nat) (Option.some Jvm.ClassFile.FieldType.int)) ∈ lw_all := lw_g (lw_at lw_m10 179 rfl) rfl
theorem q2450 : (Jvm.Cond.methodLink "ElephantEdgeModel" (583 : Nat) ({ cls := "ElephantEdgeModel", name := "causeOf", desc := "(I)I" } : Jvm.MethodName)) ∈ lw_all := lw_g (lw_at lw_m10 180 rfl) rfl
theorem q2451 : (Jvm.Cond.privateMethod ({ cls := "ElephantEdgeModel", name := "causeOf", desc := "(I)I" } : Jvm.MethodName)) ∈ lw_tbl := lw_at lw_m10 181 rfl
theorem q2452 : (Jvm.Cond.instanceMethod ({ cls := "ElephantEdgeModel", name := "causeOf", desc := "(I)I" } : Jvm.MethodName)) ∈ lw_all := lw_g (lw_at lw_m10 182 rfl) rfl
theorem q2453 : (Jvm.Cond.code ({ cls := "ElephantEdgeModel", name := "causeOf", desc := "(I)I" } : Jvm.MethodName) prog_23_method_112_code (6 : Nat) (Option.some Jvm.ClassFile.FieldType.int)) ∈ lw_all := lw_g (lw_at lw_m10 183 rfl) rfl
theorem q2455 : (Jvm.Cond.instanceMethod ({ cls := "ElephantEdgeModel", name := "causes", desc := "(II)I" } : Jvm.MethodName)) ∈ lw_all := lw_g (lw_at lw_m10 185 rfl) rfl
theorem q2456 : (Jvm.Cond.selects "ElephantEdgeModel" ({ cls := "ElephantEdgeModel", name := "causes", desc := "(II)I" } : Jvm.MethodName) ({ cls := "ElephantEdgeModel", name := "causes", desc := "(II)I" } : Jvm.MethodName)) ∈ lw_all := lw_g (lw_at lw_m10 186 rfl) rfl
theorem q2457 : (Jvm.Cond.code ({ cls := "ElephantEdgeModel", name := "causes", desc := "(II)I" } : Jvm.MethodName) prog_23_method_114_code (5 : Nat) (Option.some Jvm.ClassFile.FieldType.int)) ∈ lw_all := lw_g (lw_at lw_m10 187 rfl) rfl
theorem q2459 : (Jvm.Cond.instanceMethod ({ cls := "ElephantEdgeModel", name := "called", desc := "(II)I" } : Jvm.MethodName)) ∈ lw_all := lw_g (lw_at lw_m10 189 rfl) rfl
theorem q2460 : (Jvm.Cond.selects "ElephantEdgeModel" ({ cls := "ElephantEdgeModel", name := "called", desc := "(II)I" } : Jvm.MethodName) ({ cls := "ElephantEdgeModel", name := "called", desc := "(II)I" } : Jvm.MethodName)) ∈ lw_all := lw_g (lw_at lw_m10 190 rfl) rfl
theorem q2461 : (Jvm.Cond.code ({ cls := "ElephantEdgeModel", name := "called", desc := "(II)I" } : Jvm.MethodName) prog_23_method_118_code (8 : Nat) (Option.some Jvm.ClassFile.FieldType.int)) ∈ lw_all := lw_g (lw_at lw_m10 191 rfl) rfl
theorem q2462 : (Jvm.Cond.methodLink "ElephantEdgeModel" (592 : Nat) ({ cls := "ElephantEdgeModel", name := "nearest", desc := "(II)I" } : Jvm.MethodName)) ∈ lw_all := lw_g (lw_at lw_m10 192 rfl) rfl
theorem q2463 : (Jvm.Cond.privateMethod ({ cls := "ElephantEdgeModel", name := "nearest", desc := "(II)I" } : Jvm.MethodName)) ∈ lw_tbl := lw_at lw_m10 193 rfl
theorem q2464 : (Jvm.Cond.instanceMethod ({ cls := "ElephantEdgeModel", name := "nearest", desc := "(II)I" } : Jvm.MethodName)) ∈ lw_all := lw_g (lw_at lw_m10 194 rfl) rfl
theorem q2465 : (Jvm.Cond.code ({ cls := "ElephantEdgeModel", name := "nearest", desc := "(II)I" } : Jvm.MethodName) prog_23_method_117_code (7 : Nat) (Option.some Jvm.ClassFile.FieldType.int)) ∈ lw_all := lw_g (lw_at lw_m10 195 rfl) rfl
theorem q2466 : (Jvm.Cond.methodLink "ElephantEdgeModel" (589 : Nat) ({ cls := "ElephantEdgeModel", name := "apart", desc := "(II)I" } : Jvm.MethodName)) ∈ lw_all := lw_g (lw_at lw_m10 196 rfl) rfl
theorem q2467 : (Jvm.Cond.static ({ cls := "ElephantEdgeModel", name := "apart", desc := "(II)I" } : Jvm.MethodName)) ∈ lw_all := lw_g (lw_at lw_m10 197 rfl) rfl
theorem q2468 : (Jvm.Cond.code ({ cls := "ElephantEdgeModel", name := "apart", desc := "(II)I" } : Jvm.MethodName) prog_23_method_116_code (2 : Nat) (Option.some Jvm.ClassFile.FieldType.int)) ∈ lw_all := lw_g (lw_at lw_m10 198 rfl) rfl
theorem q2469 : (Jvm.Cond.methodLink "ElephantEdgeModel" (586 : Nat) ({ cls := "ElephantEdgeModel", name := "off", desc := "(I)I" } : Jvm.MethodName)) ∈ lw_all := lw_g (lw_at lw_m10 199 rfl) rfl
theorem q2470 : (Jvm.Cond.static ({ cls := "ElephantEdgeModel", name := "off", desc := "(I)I" } : Jvm.MethodName)) ∈ lw_all := lw_g (lw_at lw_m10 200 rfl) rfl
theorem q2471 : (Jvm.Cond.code ({ cls := "ElephantEdgeModel", name := "off", desc := "(I)I" } : Jvm.MethodName) prog_23_method_115_code (1 : Nat) (Option.some Jvm.ClassFile.FieldType.int)) ∈ lw_all := lw_g (lw_at lw_m10 201 rfl) rfl
theorem q2473 : (Jvm.Cond.instanceMethod ({ cls := "ElephantEdgeModel", name := "dusk", desc := "(III)I" } : Jvm.MethodName)) ∈ lw_all := lw_g (lw_at lw_m10 203 rfl) rfl
theorem q2474 : (Jvm.Cond.selects "ElephantEdgeModel" ({ cls := "ElephantEdgeModel", name := "dusk", desc := "(III)I" } : Jvm.MethodName) ({ cls := "ElephantEdgeModel", name := "dusk", desc := "(III)I" } : Jvm.MethodName)) ∈ lw_all := lw_g (lw_at lw_m10 204 rfl) rfl
theorem q2475 : (Jvm.Cond.code ({ cls := "ElephantEdgeModel", name := "dusk", desc := "(III)I" } : Jvm.MethodName) prog_23_method_119_code (9 : Nat) (Option.some Jvm.ClassFile.FieldType.int)) ∈ lw_all := lw_g (lw_at lw_m10 205 rfl) rfl
theorem q2477 : (Jvm.Cond.instanceMethod ({ cls := "ElephantEdgeModel", name := "lease", desc := "(IZ)Z" } : Jvm.MethodName)) ∈ lw_all := lw_g (lw_at lw_m10 207 rfl) rfl
theorem q2478 : (Jvm.Cond.selects "ElephantEdgeModel" ({ cls := "ElephantEdgeModel", name := "lease", desc := "(IZ)Z" } : Jvm.MethodName) ({ cls := "ElephantEdgeModel", name := "lease", desc := "(IZ)Z" } : Jvm.MethodName)) ∈ lw_all := lw_g (lw_at lw_m10 208 rfl) rfl
theorem q2479 : (Jvm.Cond.code ({ cls := "ElephantEdgeModel", name := "lease", desc := "(IZ)Z" } : Jvm.MethodName) prog_23_method_120_code (4 : Nat) (Option.some Jvm.ClassFile.FieldType.boolean)) ∈ lw_all := lw_g (lw_at lw_m10 209 rfl) rfl
theorem q2481 : (Jvm.Cond.instanceMethod ({ cls := "ElephantEdgeModel", name := "rent", desc := "(II)I" } : Jvm.MethodName)) ∈ lw_all := lw_g (lw_at lw_m10 211 rfl) rfl
theorem q2482 : (Jvm.Cond.selects "ElephantEdgeModel" ({ cls := "ElephantEdgeModel", name := "rent", desc := "(II)I" } : Jvm.MethodName) ({ cls := "ElephantEdgeModel", name := "rent", desc := "(II)I" } : Jvm.MethodName)) ∈ lw_all := lw_g (lw_at lw_m10 212 rfl) rfl
theorem q2483 : (Jvm.Cond.code ({ cls := "ElephantEdgeModel", name := "rent", desc := "(II)I" } : Jvm.MethodName) prog_23_method_121_code (4 : Nat) (Option.some Jvm.ClassFile.FieldType.int)) ∈ lw_all := lw_g (lw_at lw_m10 213 rfl) rfl
theorem q2485 : (Jvm.Cond.instanceMethod ({ cls := "ElephantEdgeModel", name := "rents", desc := "(II)I" } : Jvm.MethodName)) ∈ lw_all := lw_g (lw_at lw_m10 215 rfl) rfl
theorem q2486 : (Jvm.Cond.selects "ElephantEdgeModel" ({ cls := "ElephantEdgeModel", name := "rents", desc := "(II)I" } : Jvm.MethodName) ({ cls := "ElephantEdgeModel", name := "rents", desc := "(II)I" } : Jvm.MethodName)) ∈ lw_all := lw_g (lw_at lw_m10 216 rfl) rfl
theorem q2487 : (Jvm.Cond.code ({ cls := "ElephantEdgeModel", name := "rents", desc := "(II)I" } : Jvm.MethodName) prog_23_method_124_code (3 : Nat) (Option.some Jvm.ClassFile.FieldType.int)) ∈ lw_all := lw_g (lw_at lw_m10 217 rfl) rfl
theorem q2488 : (Jvm.Cond.methodLink "ElephantEdgeModel" (598 : Nat) ({ cls := "ElephantEdgeModel", name := "findRest", desc := "(I)V" } : Jvm.MethodName)) ∈ lw_all := lw_g (lw_at lw_m10 218 rfl) rfl
theorem q2489 : (Jvm.Cond.privateMethod ({ cls := "ElephantEdgeModel", name := "findRest", desc := "(I)V" } : Jvm.MethodName)) ∈ lw_tbl := lw_at lw_m10 219 rfl
theorem q2490 : (Jvm.Cond.instanceMethod ({ cls := "ElephantEdgeModel", name := "findRest", desc := "(I)V" } : Jvm.MethodName)) ∈ lw_all := lw_g (lw_at lw_m10 220 rfl) rfl
theorem q2491 : (Jvm.Cond.code ({ cls := "ElephantEdgeModel", name := "findRest", desc := "(I)V" } : Jvm.MethodName) prog_23_method_123_code (6 : Nat) (Option.none : Option Jvm.ClassFile.FieldType)) ∈ lw_all := lw_g (lw_at lw_m10 221 rfl) rfl
theorem q2492 : (Jvm.Cond.methodLink "ElephantEdgeModel" (595 : Nat) ({ cls := "ElephantEdgeModel", name := "weight", desc := "(I)I" } : Jvm.MethodName)) ∈ lw_all := lw_g (lw_at lw_m10 222 rfl) rfl
theorem q2493 : (Jvm.Cond.privateMethod ({ cls := "ElephantEdgeModel", name := "weight", desc := "(I)I" } : Jvm.MethodName)) ∈ lw_tbl := lw_at lw_m10 223 rfl
theorem q2494 : (Jvm.Cond.instanceMethod ({ cls := "ElephantEdgeModel", name := "weight", desc := "(I)I" } : Jvm.MethodName)) ∈ lw_all := lw_g (lw_at lw_m10 224 rfl) rfl
theorem q2495 : (Jvm.Cond.code ({ cls := "ElephantEdgeModel", name := "weight", desc := "(I)I" } : Jvm.MethodName) prog_23_method_122_code (2 : Nat) (Option.some Jvm.ClassFile.FieldType.int)) ∈ lw_all := lw_g (lw_at lw_m10 225 rfl) rfl
theorem q2497 : (Jvm.Cond.instanceMethod ({ cls := "ElephantEdgeModel", name := "gap", desc := "(III)I" } : Jvm.MethodName)) ∈ lw_all := lw_g (lw_at lw_m10 227 rfl) rfl
theorem q2498 : (Jvm.Cond.selects "ElephantEdgeModel" ({ cls := "ElephantEdgeModel", name := "gap", desc := "(III)I" } : Jvm.MethodName) ({ cls := "ElephantEdgeModel", name := "gap", desc := "(III)I" } : Jvm.MethodName)) ∈ lw_all := lw_g (lw_at lw_m10 228 rfl) rfl
theorem q2499 : (Jvm.Cond.code ({ cls := "ElephantEdgeModel", name := "gap", desc := "(III)I" } : Jvm.MethodName) prog_23_method_125_code (7 : Nat) (Option.some Jvm.ClassFile.FieldType.int)) ∈ lw_all := lw_g (lw_at lw_m10 229 rfl) rfl
theorem q2500 : (Jvm.Cond.methodLink "ElephantEdgeModel" (601 : Nat) ({ cls := "ElephantEdgeModel", name := "isNext", desc := "(II)Z" } : Jvm.MethodName)) ∈ lw_all := lw_g (lw_at lw_m10 230 rfl) rfl
theorem q2501 : (Jvm.Cond.privateMethod ({ cls := "ElephantEdgeModel", name := "isNext", desc := "(II)Z" } : Jvm.MethodName)) ∈ lw_tbl := lw_at lw_m10 231 rfl
theorem q2502 : (Jvm.Cond.instanceMethod ({ cls := "ElephantEdgeModel", name := "isNext", desc := "(II)Z" } : Jvm.MethodName)) ∈ lw_all := lw_g (lw_at lw_m10 232 rfl) rfl
theorem q2503 : (Jvm.Cond.code ({ cls := "ElephantEdgeModel", name := "isNext", desc := "(II)Z" } : Jvm.MethodName) prog_23_method_126_code (3 : Nat) (Option.some Jvm.ClassFile.FieldType.boolean)) ∈ lw_all := lw_g (lw_at lw_m10 233 rfl) rfl
theorem q2505 : (Jvm.Cond.instanceMethod ({ cls := "ElephantEdgeModel", name := "count", desc := "(I)I" } : Jvm.MethodName)) ∈ lw_all := lw_g (lw_at lw_m10 235 rfl) rfl
theorem q2506 : (Jvm.Cond.selects "ElephantEdgeModel" ({ cls := "ElephantEdgeModel", name := "count", desc := "(I)I" } : Jvm.MethodName) ({ cls := "ElephantEdgeModel", name := "count", desc := "(I)I" } : Jvm.MethodName)) ∈ lw_all := lw_g (lw_at lw_m10 236 rfl) rfl
theorem q2507 : (Jvm.Cond.code ({ cls := "ElephantEdgeModel", name := "count", desc := "(I)I" } : Jvm.MethodName) prog_23_method_127_code (4 : Nat) (Option.some Jvm.ClassFile.FieldType.int)) ∈ lw_all := lw_g (lw_at lw_m10 237 rfl) rfl
theorem q2521 : (Jvm.Cond.castable "ElephantEdgeModel" "java/lang/Object") ∈ lw_tbl := lw_at lw_m11 11 rfl
theorem in_X10 : ∀ w ∈ wsX100, w ∈ lw_all := lw_in wsX100 [1800, 1802, 1804, 1806, 1808, 1810, 1812, 1814, 1816, 1818, 1820, 1822, 1824, 1826, 1828, 1830, 1832, 1834, 1836, 1838, 1840, 1842, 1844, 1846, 1848, 1850, 1852, 1854, 1856, 1858, 1860, 1862, 1864, 1866, 1868, 1870, 1872, 1874, 1876, 1878, 1880, 1882, 1884, 1886, 1888, 1890, 1892, 1894, 1896, 1898, 1900, 1902, 1904, 1906, 1908, 1910, 1912, 1914, 1916, 1918, 1920, 1922, 1924, 1926, 1928, 1930, 1932, 1934, 1936, 1938, 1940, 1942, 1944, 1946, 1948, 1950, 1952, 1954, 1956, 1958, 1960, 1962, 1964, 1966, 1968, 1970, 1972, 1974, 1976, 1978, 1980, 1982, 1984, 1986, 1988, 1990, 1992, 1994, 1996, 1998, 2000, 2002, 2004, 2006, 2008, 2010, 2012] (by decide +kernel) (by decide +kernel)
/-! java/lang/Throwable -/
def RJ3 : String := "java/lang/Throwable"
def TJ3 : u_T := fun k => match k with
  | 0 => ("java/lang/Throwable", "cause", "Ljava/lang/Throwable;", false)
  | 1 => ("java/lang/Throwable", "stackTrace", "[Ljava/lang/StackTraceElement;", false)
  | 2 => ("java/lang/Throwable", "suppressedExceptions", "Ljava/util/List;", false)
  | 3 => ("java/lang/Throwable", "detailMessage", "Ljava/lang/String;", false)
  | _ => ("java/lang/Throwable", "backtrace", "Ljava/lang/Object;", false)
def tyJ3 : Nat → FieldType := fun k => match k with
  | 0 => .object "java/lang/Throwable"
  | 1 => .array (.object "java/lang/StackTraceElement")
  | 2 => .object "java/util/List"
  | 3 => .object "java/lang/String"
  | _ => .object "java/lang/Object"
abbrev wsJ30 : List Cond := u_ws RJ3 TJ3 5
theorem nmJ3 : ∀ a, a < 5 → ∀ b, b < 5 → a ≠ b → (TJ3 a).2.1 ≠ (TJ3 b).2.1 := by decide +kernel
theorem tyJ3_ok : ∀ k, k < 5 → parseFieldDescriptor (TJ3 k).2.2.1 = some (tyJ3 k) := by decide +kernel
abbrev cJ3_init : ByteArray := prog_41_method_2_code
def yJ3_init : MethodName := ⟨RJ3, "<init>", "(Ljava/lang/String;)V"⟩
abbrev cJ3_init_2 : ByteArray := prog_41_method_1_code
def yJ3_init_2 : MethodName := ⟨RJ3, "<init>", "()V"⟩
theorem q124 : (Jvm.Cond.initialized "java/lang/Throwable") ∈ lw_all := lw_g (lw_at lw_m1 14 rfl) rfl
theorem q751 : (Jvm.Cond.instanceMethod ({ cls := "java/lang/Throwable", name := "<init>", desc := "(Ljava/lang/String;)V" } : Jvm.MethodName)) ∈ lw_all := lw_g (lw_at lw_m3 161 rfl) rfl
theorem q752 : (Jvm.Cond.code ({ cls := "java/lang/Throwable", name := "<init>", desc := "(Ljava/lang/String;)V" } : Jvm.MethodName) prog_41_method_2_code (2 : Nat) (Option.none : Option Jvm.ClassFile.FieldType)) ∈ lw_all := lw_g (lw_at lw_m3 162 rfl) rfl
theorem q753 : (Jvm.Cond.methodLink "java/lang/Throwable" (1 : Nat) ({ cls := "java/lang/Object", name := "<init>", desc := "()V" } : Jvm.MethodName)) ∈ lw_all := lw_g (lw_at lw_m3 163 rfl) rfl
theorem q754 : (Jvm.Cond.fieldLink "java/lang/Throwable" (13 : Nat) "java/lang/Throwable" "UNASSIGNED_STACK" "[Ljava/lang/StackTraceElement;") ∈ lw_all := lw_g (lw_at lw_m3 164 rfl) rfl
theorem q755 : (Jvm.Cond.laysStatic "java/lang/Throwable" "UNASSIGNED_STACK" "[Ljava/lang/StackTraceElement;") ∈ lw_tbl := lw_at lw_m3 165 rfl
theorem q756 : (Jvm.Cond.fieldLink "java/lang/Throwable" (20 : Nat) "java/lang/Throwable" "SUPPRESSED_SENTINEL" "Ljava/util/List;") ∈ lw_all := lw_g (lw_at lw_m3 166 rfl) rfl
theorem q757 : (Jvm.Cond.laysStatic "java/lang/Throwable" "SUPPRESSED_SENTINEL" "Ljava/util/List;") ∈ lw_tbl := lw_at lw_m3 167 rfl
theorem q758 : (Jvm.Cond.methodLink "java/lang/Throwable" (27 : Nat) ({ cls := "java/lang/Throwable", name := "fillInStackTrace", desc := "()Ljava/lang/Throwable;" } : Jvm.MethodName)) ∈ lw_all := lw_g (lw_at lw_m3 168 rfl) rfl
theorem q759 : (Jvm.Cond.instanceMethod ({ cls := "java/lang/Throwable", name := "fillInStackTrace", desc := "()Ljava/lang/Throwable;" } : Jvm.MethodName)) ∈ lw_all := lw_g (lw_at lw_m3 169 rfl) rfl
theorem q760 : (Jvm.Cond.sameMethod "java/lang/Throwable" "java/lang/Throwable" "fillInStackTrace" "()Ljava/lang/Throwable;") ∈ lw_all := lw_g (lw_at lw_m3 170 rfl) rfl
theorem q767 : (Jvm.Cond.codeSync ({ cls := "java/lang/Throwable", name := "fillInStackTrace", desc := "()Ljava/lang/Throwable;" } : Jvm.MethodName) prog_41_method_18_code (1 : Nat) (Option.some (Jvm.ClassFile.FieldType.object "java/lang/Throwable"))) ∈ lw_all := lw_g (lw_at lw_m3 177 rfl) rfl
theorem q768 : (Jvm.Cond.methodLink "java/lang/Throwable" (202 : Nat) ({ cls := "java/lang/Throwable", name := "fillInStackTrace", desc := "(I)Ljava/lang/Throwable;" } : Jvm.MethodName)) ∈ lw_all := lw_g (lw_at lw_m3 178 rfl) rfl
theorem q769 : (Jvm.Cond.privateMethod ({ cls := "java/lang/Throwable", name := "fillInStackTrace", desc := "(I)Ljava/lang/Throwable;" } : Jvm.MethodName)) ∈ lw_tbl := lw_at lw_m3 179 rfl
theorem q770 : (Jvm.Cond.instanceMethod ({ cls := "java/lang/Throwable", name := "fillInStackTrace", desc := "(I)Ljava/lang/Throwable;" } : Jvm.MethodName)) ∈ lw_all := lw_g (lw_at lw_m3 180 rfl) rfl
theorem q771 : (Jvm.Cond.instantiable "java/lang/Throwable" (6 : Nat)) ∈ lw_all := lw_g (lw_at lw_m3 181 rfl) rfl
theorem q772 : (Jvm.Cond.native ({ cls := "java/lang/Throwable", name := "fillInStackTrace", desc := "(I)Ljava/lang/Throwable;" } : Jvm.MethodName)) ∈ lw_all := lw_g (lw_at lw_m3 182 rfl) rfl
theorem q773 : (Jvm.Cond.fieldLink "java/lang/Throwable" (198 : Nat) "java/lang/Throwable" "backtrace" "Ljava/lang/Object;") ∈ lw_all := lw_g (lw_at lw_m3 183 rfl) rfl
theorem q774 : (Jvm.Cond.fieldLink "java/lang/Throwable" (31 : Nat) "java/lang/Throwable" "detailMessage" "Ljava/lang/String;") ∈ lw_all := lw_g (lw_at lw_m3 184 rfl) rfl
theorem q775 : (Jvm.Cond.fieldLink "java/lang/Throwable" (7 : Nat) "java/lang/Throwable" "cause" "Ljava/lang/Throwable;") ∈ lw_all := lw_g (lw_at lw_m3 185 rfl) rfl
theorem q776 : (Jvm.Cond.fieldLink "java/lang/Throwable" (17 : Nat) "java/lang/Throwable" "stackTrace" "[Ljava/lang/StackTraceElement;") ∈ lw_all := lw_g (lw_at lw_m3 186 rfl) rfl
theorem q777 : (Jvm.Cond.fieldLink "java/lang/Throwable" (24 : Nat) "java/lang/Throwable" "suppressedExceptions" "Ljava/util/List;") ∈ lw_all := lw_g (lw_at lw_m3 187 rfl) rfl
theorem q779 : (Jvm.Cond.soleField "java/lang/Throwable" "backtrace") ∈ lw_all := lw_g (lw_at lw_m3 189 rfl) rfl
theorem q781 : (Jvm.Cond.soleField "java/lang/Throwable" "detailMessage") ∈ lw_all := lw_g (lw_at lw_m3 191 rfl) rfl
theorem q783 : (Jvm.Cond.soleField "java/lang/Throwable" "cause") ∈ lw_all := lw_g (lw_at lw_m3 193 rfl) rfl
theorem q785 : (Jvm.Cond.soleField "java/lang/Throwable" "stackTrace") ∈ lw_all := lw_g (lw_at lw_m3 195 rfl) rfl
theorem q787 : (Jvm.Cond.soleField "java/lang/Throwable" "depth") ∈ lw_all := lw_g (lw_at lw_m3 197 rfl) rfl
theorem q789 : (Jvm.Cond.soleField "java/lang/Throwable" "suppressedExceptions") ∈ lw_all := lw_g (lw_at lw_m3 199 rfl) rfl
theorem q798 : (Jvm.Cond.declares ({ cls := "java/lang/Throwable", name := "<init>", desc := "()V" } : Jvm.MethodName)) ∈ lw_tbl := lw_at lw_m3 208 rfl
theorem q799 : (Jvm.Cond.declares ({ cls := "java/lang/Throwable", name := "<init>", desc := "(Ljava/lang/String;)V" } : Jvm.MethodName)) ∈ lw_tbl := lw_at lw_m3 209 rfl
theorem q801 : (Jvm.Cond.lays "java/lang/Throwable" "java/lang/Throwable" "cause" "Ljava/lang/Throwable;") ∈ lw_all := lw_g (lw_at lw_m3 211 rfl) rfl
theorem q802 : (Jvm.Cond.lays "java/lang/Throwable" "java/lang/Throwable" "stackTrace" "[Ljava/lang/StackTraceElement;") ∈ lw_all := lw_g (lw_at lw_m3 212 rfl) rfl
theorem q803 : (Jvm.Cond.lays "java/lang/Throwable" "java/lang/Throwable" "suppressedExceptions" "Ljava/util/List;") ∈ lw_all := lw_g (lw_at lw_m3 213 rfl) rfl
theorem q804 : (Jvm.Cond.lays "java/lang/Throwable" "java/lang/Throwable" "detailMessage" "Ljava/lang/String;") ∈ lw_all := lw_g (lw_at lw_m3 214 rfl) rfl
theorem q805 : (Jvm.Cond.lays "java/lang/Throwable" "java/lang/Throwable" "backtrace" "Ljava/lang/Object;") ∈ lw_all := lw_g (lw_at lw_m3 215 rfl) rfl
theorem q806 : (Jvm.Cond.fieldLink "java/lang/Throwable" (198 : Nat) "java/lang/Throwable" "backtrace" "Ljava/lang/Object;") ∈ lw_all := lw_g (lw_at lw_m3 216 rfl) rfl
theorem q807 : (Jvm.Cond.superclass "java/lang/Throwable" "java/lang/Object") ∈ lw_all := lw_g (lw_at lw_m3 217 rfl) rfl
theorem q808 : (Jvm.Cond.instanceMethod ({ cls := "java/lang/Throwable", name := "<init>", desc := "()V" } : Jvm.MethodName)) ∈ lw_all := lw_g (lw_at lw_m3 218 rfl) rfl
theorem q809 : (Jvm.Cond.code ({ cls := "java/lang/Throwable", name := "<init>", desc := "()V" } : Jvm.MethodName) prog_41_method_1_code (1 : Nat) (Option.none : Option Jvm.ClassFile.FieldType)) ∈ lw_all := lw_g (lw_at lw_m3 219 rfl) rfl
theorem q2509 : (Jvm.Cond.sameMethod "java/lang/Throwable" "java/lang/Throwable" "fillInStackTrace" "(I)Ljava/lang/Throwable;") ∈ lw_all := lw_g (lw_at lw_m10 239 rfl) rfl
theorem q2538 : (Jvm.Cond.castable "java/lang/Throwable" "java/lang/Object") ∈ lw_tbl := lw_at lw_m11 28 rfl
theorem in_J3 : ∀ w ∈ wsJ30, w ∈ lw_all := lw_in wsJ30 [801, 802, 803, 804, 805] (by decide +kernel) (by decide +kernel)
/-! java/lang/Exception -/
def RJ4 : String := "java/lang/Exception"
abbrev cJ4_init : ByteArray := prog_29_method_2_code
def yJ4_init : MethodName := ⟨RJ4, "<init>", "(Ljava/lang/String;)V"⟩
abbrev cJ4_init_2 : ByteArray := prog_29_method_1_code
def yJ4_init_2 : MethodName := ⟨RJ4, "<init>", "()V"⟩
theorem q125 : (Jvm.Cond.initialized "java/lang/Exception") ∈ lw_all := lw_g (lw_at lw_m1 15 rfl) rfl
theorem q748 : (Jvm.Cond.instanceMethod ({ cls := "java/lang/Exception", name := "<init>", desc := "(Ljava/lang/String;)V" } : Jvm.MethodName)) ∈ lw_all := lw_g (lw_at lw_m3 158 rfl) rfl
theorem q749 : (Jvm.Cond.code ({ cls := "java/lang/Exception", name := "<init>", desc := "(Ljava/lang/String;)V" } : Jvm.MethodName) prog_29_method_2_code (2 : Nat) (Option.none : Option Jvm.ClassFile.FieldType)) ∈ lw_all := lw_g (lw_at lw_m3 159 rfl) rfl
theorem q750 : (Jvm.Cond.methodLink "java/lang/Exception" (7 : Nat) ({ cls := "java/lang/Throwable", name := "<init>", desc := "(Ljava/lang/String;)V" } : Jvm.MethodName)) ∈ lw_all := lw_g (lw_at lw_m3 160 rfl) rfl
theorem q796 : (Jvm.Cond.declares ({ cls := "java/lang/Exception", name := "<init>", desc := "()V" } : Jvm.MethodName)) ∈ lw_tbl := lw_at lw_m3 206 rfl
theorem q797 : (Jvm.Cond.declares ({ cls := "java/lang/Exception", name := "<init>", desc := "(Ljava/lang/String;)V" } : Jvm.MethodName)) ∈ lw_tbl := lw_at lw_m3 207 rfl
theorem q843 : (Jvm.Cond.instanceMethod ({ cls := "java/lang/Exception", name := "<init>", desc := "()V" } : Jvm.MethodName)) ∈ lw_all := lw_g (lw_at lw_m4 13 rfl) rfl
theorem q844 : (Jvm.Cond.code ({ cls := "java/lang/Exception", name := "<init>", desc := "()V" } : Jvm.MethodName) prog_29_method_1_code (1 : Nat) (Option.none : Option Jvm.ClassFile.FieldType)) ∈ lw_all := lw_g (lw_at lw_m4 14 rfl) rfl
theorem q845 : (Jvm.Cond.methodLink "java/lang/Exception" (1 : Nat) ({ cls := "java/lang/Throwable", name := "<init>", desc := "()V" } : Jvm.MethodName)) ∈ lw_all := lw_g (lw_at lw_m4 15 rfl) rfl
/-! java/lang/RuntimeException -/
def RJ5 : String := "java/lang/RuntimeException"
abbrev cJ5_init : ByteArray := prog_36_method_2_code
def yJ5_init : MethodName := ⟨RJ5, "<init>", "(Ljava/lang/String;)V"⟩
abbrev cJ5_init_2 : ByteArray := prog_36_method_1_code
def yJ5_init_2 : MethodName := ⟨RJ5, "<init>", "()V"⟩
theorem q126 : (Jvm.Cond.initialized "java/lang/RuntimeException") ∈ lw_all := lw_g (lw_at lw_m1 16 rfl) rfl
theorem q745 : (Jvm.Cond.instanceMethod ({ cls := "java/lang/RuntimeException", name := "<init>", desc := "(Ljava/lang/String;)V" } : Jvm.MethodName)) ∈ lw_all := lw_g (lw_at lw_m3 155 rfl) rfl
theorem q746 : (Jvm.Cond.code ({ cls := "java/lang/RuntimeException", name := "<init>", desc := "(Ljava/lang/String;)V" } : Jvm.MethodName) prog_36_method_2_code (2 : Nat) (Option.none : Option Jvm.ClassFile.FieldType)) ∈ lw_all := lw_g (lw_at lw_m3 156 rfl) rfl
theorem q747 : (Jvm.Cond.methodLink "java/lang/RuntimeException" (7 : Nat) ({ cls := "java/lang/Exception", name := "<init>", desc := "(Ljava/lang/String;)V" } : Jvm.MethodName)) ∈ lw_all := lw_g (lw_at lw_m3 157 rfl) rfl
theorem q794 : (Jvm.Cond.declares ({ cls := "java/lang/RuntimeException", name := "<init>", desc := "()V" } : Jvm.MethodName)) ∈ lw_tbl := lw_at lw_m3 204 rfl
theorem q795 : (Jvm.Cond.declares ({ cls := "java/lang/RuntimeException", name := "<init>", desc := "(Ljava/lang/String;)V" } : Jvm.MethodName)) ∈ lw_tbl := lw_at lw_m3 205 rfl
theorem q840 : (Jvm.Cond.instanceMethod ({ cls := "java/lang/RuntimeException", name := "<init>", desc := "()V" } : Jvm.MethodName)) ∈ lw_all := lw_g (lw_at lw_m4 10 rfl) rfl
theorem q841 : (Jvm.Cond.code ({ cls := "java/lang/RuntimeException", name := "<init>", desc := "()V" } : Jvm.MethodName) prog_36_method_1_code (1 : Nat) (Option.none : Option Jvm.ClassFile.FieldType)) ∈ lw_all := lw_g (lw_at lw_m4 11 rfl) rfl
theorem q842 : (Jvm.Cond.methodLink "java/lang/RuntimeException" (1 : Nat) ({ cls := "java/lang/Exception", name := "<init>", desc := "()V" } : Jvm.MethodName)) ∈ lw_all := lw_g (lw_at lw_m4 12 rfl) rfl
/-! java/lang/IndexOutOfBoundsException -/
def RJ6 : String := "java/lang/IndexOutOfBoundsException"
def TJ6 : u_T := fun k => match k with
  | 0 => ("java/lang/Throwable", "cause", "Ljava/lang/Throwable;", false)
  | 1 => ("java/lang/Throwable", "stackTrace", "[Ljava/lang/StackTraceElement;", false)
  | 2 => ("java/lang/Throwable", "suppressedExceptions", "Ljava/util/List;", false)
  | 3 => ("java/lang/Throwable", "detailMessage", "Ljava/lang/String;", false)
  | 4 => ("java/lang/Throwable", "backtrace", "Ljava/lang/Object;", false)
  | _ => ("java/lang/Throwable", "depth", "I", false)
def tyJ6 : Nat → FieldType := fun k => match k with
  | 0 => .object "java/lang/Throwable"
  | 1 => .array (.object "java/lang/StackTraceElement")
  | 2 => .object "java/util/List"
  | 3 => .object "java/lang/String"
  | 4 => .object "java/lang/Object"
  | _ => .int
abbrev wsJ60 : List Cond := u_ws RJ6 TJ6 6
theorem nmJ6 : ∀ a, a < 6 → ∀ b, b < 6 → a ≠ b → (TJ6 a).2.1 ≠ (TJ6 b).2.1 := by decide +kernel
theorem tyJ6_ok : ∀ k, k < 6 → parseFieldDescriptor (TJ6 k).2.2.1 = some (tyJ6 k) := by decide +kernel
abbrev cJ6_init : ByteArray := prog_32_method_2_code
def yJ6_init : MethodName := ⟨RJ6, "<init>", "(Ljava/lang/String;)V"⟩
abbrev cJ6_init_2 : ByteArray := prog_32_method_1_code
def yJ6_init_2 : MethodName := ⟨RJ6, "<init>", "()V"⟩
theorem q127 : (Jvm.Cond.initialized "java/lang/IndexOutOfBoundsException") ∈ lw_all := lw_g (lw_at lw_m1 17 rfl) rfl
theorem q682 : (Jvm.Cond.selects "java/lang/IndexOutOfBoundsException" ({ cls := "java/lang/Object", name := "getClass", desc := "()Ljava/lang/Class;" } : Jvm.MethodName) ({ cls := "java/lang/Object", name := "getClass", desc := "()Ljava/lang/Class;" } : Jvm.MethodName)) ∈ lw_all := lw_g (lw_at lw_m3 92 rfl) rfl
theorem q742 : (Jvm.Cond.instanceMethod ({ cls := "java/lang/IndexOutOfBoundsException", name := "<init>", desc := "(Ljava/lang/String;)V" } : Jvm.MethodName)) ∈ lw_all := lw_g (lw_at lw_m3 152 rfl) rfl
theorem q743 : (Jvm.Cond.code ({ cls := "java/lang/IndexOutOfBoundsException", name := "<init>", desc := "(Ljava/lang/String;)V" } : Jvm.MethodName) prog_32_method_2_code (2 : Nat) (Option.none : Option Jvm.ClassFile.FieldType)) ∈ lw_all := lw_g (lw_at lw_m3 153 rfl) rfl
theorem q744 : (Jvm.Cond.methodLink "java/lang/IndexOutOfBoundsException" (7 : Nat) ({ cls := "java/lang/RuntimeException", name := "<init>", desc := "(Ljava/lang/String;)V" } : Jvm.MethodName)) ∈ lw_all := lw_g (lw_at lw_m3 154 rfl) rfl
theorem q765 : (Jvm.Cond.selects "java/lang/IndexOutOfBoundsException" ({ cls := "java/lang/Throwable", name := "fillInStackTrace", desc := "()Ljava/lang/Throwable;" } : Jvm.MethodName) ({ cls := "java/lang/Throwable", name := "fillInStackTrace", desc := "()Ljava/lang/Throwable;" } : Jvm.MethodName)) ∈ lw_all := lw_g (lw_at lw_m3 175 rfl) rfl
theorem q792 : (Jvm.Cond.declares ({ cls := "java/lang/IndexOutOfBoundsException", name := "<init>", desc := "()V" } : Jvm.MethodName)) ∈ lw_tbl := lw_at lw_m3 202 rfl
theorem q793 : (Jvm.Cond.declares ({ cls := "java/lang/IndexOutOfBoundsException", name := "<init>", desc := "(Ljava/lang/String;)V" } : Jvm.MethodName)) ∈ lw_tbl := lw_at lw_m3 203 rfl
theorem q828 : (Jvm.Cond.instantiable "java/lang/IndexOutOfBoundsException" (6 : Nat)) ∈ lw_all := lw_g (lw_at lw_m3 238 rfl) rfl
theorem q829 : (Jvm.Cond.castable "java/lang/IndexOutOfBoundsException" "java/lang/IndexOutOfBoundsException") ∈ lw_tbl := lw_at lw_m3 239 rfl
theorem q830 : (Jvm.Cond.selects "java/lang/IndexOutOfBoundsException" ({ cls := "java/lang/Throwable", name := "fillInStackTrace", desc := "(I)Ljava/lang/Throwable;" } : Jvm.MethodName) ({ cls := "java/lang/Throwable", name := "fillInStackTrace", desc := "(I)Ljava/lang/Throwable;" } : Jvm.MethodName)) ∈ lw_all := lw_g (lw_at lw_m4 0 rfl) rfl
theorem q831 : (Jvm.Cond.lays "java/lang/IndexOutOfBoundsException" "java/lang/Throwable" "cause" "Ljava/lang/Throwable;") ∈ lw_all := lw_g (lw_at lw_m4 1 rfl) rfl
theorem q832 : (Jvm.Cond.lays "java/lang/IndexOutOfBoundsException" "java/lang/Throwable" "stackTrace" "[Ljava/lang/StackTraceElement;") ∈ lw_all := lw_g (lw_at lw_m4 2 rfl) rfl
theorem q833 : (Jvm.Cond.lays "java/lang/IndexOutOfBoundsException" "java/lang/Throwable" "suppressedExceptions" "Ljava/util/List;") ∈ lw_all := lw_g (lw_at lw_m4 3 rfl) rfl
theorem q834 : (Jvm.Cond.lays "java/lang/IndexOutOfBoundsException" "java/lang/Throwable" "detailMessage" "Ljava/lang/String;") ∈ lw_all := lw_g (lw_at lw_m4 4 rfl) rfl
theorem q835 : (Jvm.Cond.lays "java/lang/IndexOutOfBoundsException" "java/lang/Throwable" "backtrace" "Ljava/lang/Object;") ∈ lw_all := lw_g (lw_at lw_m4 5 rfl) rfl
theorem q837 : (Jvm.Cond.instanceMethod ({ cls := "java/lang/IndexOutOfBoundsException", name := "<init>", desc := "()V" } : Jvm.MethodName)) ∈ lw_all := lw_g (lw_at lw_m4 7 rfl) rfl
theorem q838 : (Jvm.Cond.code ({ cls := "java/lang/IndexOutOfBoundsException", name := "<init>", desc := "()V" } : Jvm.MethodName) prog_32_method_1_code (1 : Nat) (Option.none : Option Jvm.ClassFile.FieldType)) ∈ lw_all := lw_g (lw_at lw_m4 8 rfl) rfl
theorem q839 : (Jvm.Cond.methodLink "java/lang/IndexOutOfBoundsException" (1 : Nat) ({ cls := "java/lang/RuntimeException", name := "<init>", desc := "()V" } : Jvm.MethodName)) ∈ lw_all := lw_g (lw_at lw_m4 9 rfl) rfl
theorem q846 : (Jvm.Cond.lays "java/lang/IndexOutOfBoundsException" "java/lang/Throwable" "depth" "I") ∈ lw_all := lw_g (lw_at lw_m4 16 rfl) rfl
theorem q847 : (Jvm.Cond.superclass "java/lang/IndexOutOfBoundsException" "java/lang/RuntimeException") ∈ lw_all := lw_g (lw_at lw_m4 17 rfl) rfl
theorem q2523 : (Jvm.Cond.castable "java/lang/IndexOutOfBoundsException" "java/lang/Object") ∈ lw_tbl := lw_at lw_m11 13 rfl
theorem in_J6 : ∀ w ∈ wsJ60, w ∈ lw_all := lw_in wsJ60 [831, 832, 833, 834, 835, 846] (by decide +kernel) (by decide +kernel)
/-! java/lang/ArrayIndexOutOfBoundsException -/
def RJ7 : String := "java/lang/ArrayIndexOutOfBoundsException"
def TJ7 : u_T := fun k => match k with
  | 0 => ("java/lang/Throwable", "backtrace", "Ljava/lang/Object;", false)
  | 1 => ("java/lang/Throwable", "detailMessage", "Ljava/lang/String;", false)
  | 2 => ("java/lang/Throwable", "cause", "Ljava/lang/Throwable;", false)
  | 3 => ("java/lang/Throwable", "stackTrace", "[Ljava/lang/StackTraceElement;", false)
  | 4 => ("java/lang/Throwable", "depth", "I", false)
  | _ => ("java/lang/Throwable", "suppressedExceptions", "Ljava/util/List;", false)
def tyJ7 : Nat → FieldType := fun k => match k with
  | 0 => .object "java/lang/Object"
  | 1 => .object "java/lang/String"
  | 2 => .object "java/lang/Throwable"
  | 3 => .array (.object "java/lang/StackTraceElement")
  | 4 => .int
  | _ => .object "java/util/List"
abbrev wsJ70 : List Cond := u_ws RJ7 TJ7 6
theorem nmJ7 : ∀ a, a < 6 → ∀ b, b < 6 → a ≠ b → (TJ7 a).2.1 ≠ (TJ7 b).2.1 := by decide +kernel
theorem tyJ7_ok : ∀ k, k < 6 → parseFieldDescriptor (TJ7 k).2.2.1 = some (tyJ7 k) := by decide +kernel
abbrev cJ7_init : ByteArray := prog_25_method_2_code
def yJ7_init : MethodName := ⟨RJ7, "<init>", "(Ljava/lang/String;)V"⟩
theorem q128 : (Jvm.Cond.initialized "java/lang/ArrayIndexOutOfBoundsException") ∈ lw_all := lw_g (lw_at lw_m1 18 rfl) rfl
theorem q679 : (Jvm.Cond.selects "java/lang/ArrayIndexOutOfBoundsException" ({ cls := "java/lang/Object", name := "getClass", desc := "()Ljava/lang/Class;" } : Jvm.MethodName) ({ cls := "java/lang/Object", name := "getClass", desc := "()Ljava/lang/Class;" } : Jvm.MethodName)) ∈ lw_all := lw_g (lw_at lw_m3 89 rfl) rfl
theorem q738 : (Jvm.Cond.instantiable "java/lang/ArrayIndexOutOfBoundsException" (6 : Nat)) ∈ lw_all := lw_g (lw_at lw_m3 148 rfl) rfl
theorem q739 : (Jvm.Cond.instanceMethod ({ cls := "java/lang/ArrayIndexOutOfBoundsException", name := "<init>", desc := "(Ljava/lang/String;)V" } : Jvm.MethodName)) ∈ lw_all := lw_g (lw_at lw_m3 149 rfl) rfl
theorem q740 : (Jvm.Cond.code ({ cls := "java/lang/ArrayIndexOutOfBoundsException", name := "<init>", desc := "(Ljava/lang/String;)V" } : Jvm.MethodName) prog_25_method_2_code (2 : Nat) (Option.none : Option Jvm.ClassFile.FieldType)) ∈ lw_all := lw_g (lw_at lw_m3 150 rfl) rfl
theorem q741 : (Jvm.Cond.methodLink "java/lang/ArrayIndexOutOfBoundsException" (7 : Nat) ({ cls := "java/lang/IndexOutOfBoundsException", name := "<init>", desc := "(Ljava/lang/String;)V" } : Jvm.MethodName)) ∈ lw_all := lw_g (lw_at lw_m3 151 rfl) rfl
theorem q762 : (Jvm.Cond.selects "java/lang/ArrayIndexOutOfBoundsException" ({ cls := "java/lang/Throwable", name := "fillInStackTrace", desc := "()Ljava/lang/Throwable;" } : Jvm.MethodName) ({ cls := "java/lang/Throwable", name := "fillInStackTrace", desc := "()Ljava/lang/Throwable;" } : Jvm.MethodName)) ∈ lw_all := lw_g (lw_at lw_m3 172 rfl) rfl
theorem q778 : (Jvm.Cond.lays "java/lang/ArrayIndexOutOfBoundsException" "java/lang/Throwable" "backtrace" "Ljava/lang/Object;") ∈ lw_all := lw_g (lw_at lw_m3 188 rfl) rfl
theorem q780 : (Jvm.Cond.lays "java/lang/ArrayIndexOutOfBoundsException" "java/lang/Throwable" "detailMessage" "Ljava/lang/String;") ∈ lw_all := lw_g (lw_at lw_m3 190 rfl) rfl
theorem q782 : (Jvm.Cond.lays "java/lang/ArrayIndexOutOfBoundsException" "java/lang/Throwable" "cause" "Ljava/lang/Throwable;") ∈ lw_all := lw_g (lw_at lw_m3 192 rfl) rfl
theorem q784 : (Jvm.Cond.lays "java/lang/ArrayIndexOutOfBoundsException" "java/lang/Throwable" "stackTrace" "[Ljava/lang/StackTraceElement;") ∈ lw_all := lw_g (lw_at lw_m3 194 rfl) rfl
theorem q786 : (Jvm.Cond.lays "java/lang/ArrayIndexOutOfBoundsException" "java/lang/Throwable" "depth" "I") ∈ lw_all := lw_g (lw_at lw_m3 196 rfl) rfl
theorem q788 : (Jvm.Cond.lays "java/lang/ArrayIndexOutOfBoundsException" "java/lang/Throwable" "suppressedExceptions" "Ljava/util/List;") ∈ lw_all := lw_g (lw_at lw_m3 198 rfl) rfl
theorem q790 : (Jvm.Cond.superclass "java/lang/ArrayIndexOutOfBoundsException" "java/lang/IndexOutOfBoundsException") ∈ lw_all := lw_g (lw_at lw_m3 200 rfl) rfl
theorem q791 : (Jvm.Cond.castable "java/lang/ArrayIndexOutOfBoundsException" "java/lang/ArrayIndexOutOfBoundsException") ∈ lw_tbl := lw_at lw_m3 201 rfl
theorem q800 : (Jvm.Cond.selects "java/lang/ArrayIndexOutOfBoundsException" ({ cls := "java/lang/Throwable", name := "fillInStackTrace", desc := "(I)Ljava/lang/Throwable;" } : Jvm.MethodName) ({ cls := "java/lang/Throwable", name := "fillInStackTrace", desc := "(I)Ljava/lang/Throwable;" } : Jvm.MethodName)) ∈ lw_all := lw_g (lw_at lw_m3 210 rfl) rfl
theorem q2511 : (Jvm.Cond.castable "java/lang/ArrayIndexOutOfBoundsException" "java/lang/IndexOutOfBoundsException") ∈ lw_tbl := lw_at lw_m11 1 rfl
theorem q2522 : (Jvm.Cond.castable "java/lang/ArrayIndexOutOfBoundsException" "java/lang/Object") ∈ lw_tbl := lw_at lw_m11 12 rfl
theorem in_J7 : ∀ w ∈ wsJ70, w ∈ lw_all := lw_in wsJ70 [778, 780, 782, 784, 786, 788] (by decide +kernel) (by decide +kernel)
/-! java/lang/String -/
def RJ8 : String := "java/lang/String"
def TJ8 : u_T := fun k => match k with
  | 0 => ("java/lang/String", "value", "[B", true)
  | _ => ("java/lang/String", "coder", "B", true)
def tyJ8 : Nat → FieldType := fun k => match k with
  | 0 => .array .byte
  | _ => .byte
abbrev wsJ80 : List Cond := u_ws RJ8 TJ8 2
theorem nmJ8 : ∀ a, a < 2 → ∀ b, b < 2 → a ≠ b → (TJ8 a).2.1 ≠ (TJ8 b).2.1 := by decide +kernel
theorem tyJ8_ok : ∀ k, k < 2 → parseFieldDescriptor (TJ8 k).2.2.1 = some (tyJ8 k) := by decide +kernel
abbrev cJ8_length : ByteArray := prog_37_method_54_code
def yJ8_length : MethodName := ⟨RJ8, "length", "()I"⟩
abbrev cJ8_coder : ByteArray := prog_37_method_152_code
def yJ8_coder : MethodName := ⟨RJ8, "coder", "()B"⟩
abbrev cJ8_charAt : ByteArray := prog_37_method_56_code
def yJ8_charAt : MethodName := ⟨RJ8, "charAt", "(I)C"⟩
abbrev cJ8_isLatin1 : ByteArray := prog_37_method_154_code
def yJ8_isLatin1 : MethodName := ⟨RJ8, "isLatin1", "()Z"⟩
abbrev cJ8_checkIndex : ByteArray := prog_37_method_155_code
def yJ8_checkIndex : MethodName := ⟨RJ8, "checkIndex", "(II)V"⟩
theorem q129 : (Jvm.Cond.initialized "java/lang/String") ∈ lw_all := lw_g (lw_at lw_m1 19 rfl) rfl
theorem q810 : (Jvm.Cond.instantiable "java/lang/String" (4 : Nat)) ∈ lw_all := lw_g (lw_at lw_m3 220 rfl) rfl
theorem q811 : (Jvm.Cond.laysFinal "java/lang/String" "java/lang/String" "value" "[B") ∈ lw_all := lw_g (lw_at lw_m3 221 rfl) rfl
theorem q812 : (Jvm.Cond.soleField "java/lang/String" "value") ∈ lw_all := lw_g (lw_at lw_m3 222 rfl) rfl
theorem q813 : (Jvm.Cond.laysFinal "java/lang/String" "java/lang/String" "coder" "B") ∈ lw_all := lw_g (lw_at lw_m3 223 rfl) rfl
theorem q814 : (Jvm.Cond.soleField "java/lang/String" "coder") ∈ lw_all := lw_g (lw_at lw_m3 224 rfl) rfl
theorem q991 : (Jvm.Cond.instanceMethod ({ cls := "java/lang/String", name := "length", desc := "()I" } : Jvm.MethodName)) ∈ lw_all := lw_g (lw_at lw_m4 161 rfl) rfl
theorem q992 : (Jvm.Cond.selects "java/lang/String" ({ cls := "java/lang/String", name := "length", desc := "()I" } : Jvm.MethodName) ({ cls := "java/lang/String", name := "length", desc := "()I" } : Jvm.MethodName)) ∈ lw_all := lw_g (lw_at lw_m4 162 rfl) rfl
theorem q993 : (Jvm.Cond.code ({ cls := "java/lang/String", name := "length", desc := "()I" } : Jvm.MethodName) prog_37_method_54_code (1 : Nat) (Option.some Jvm.ClassFile.FieldType.int)) ∈ lw_all := lw_g (lw_at lw_m4 163 rfl) rfl
theorem q994 : (Jvm.Cond.methodLink "java/lang/String" (335 : Nat) ({ cls := "java/lang/String", name := "coder", desc := "()B" } : Jvm.MethodName)) ∈ lw_all := lw_g (lw_at lw_m4 164 rfl) rfl
theorem q995 : (Jvm.Cond.instanceMethod ({ cls := "java/lang/String", name := "coder", desc := "()B" } : Jvm.MethodName)) ∈ lw_all := lw_g (lw_at lw_m4 165 rfl) rfl
theorem q996 : (Jvm.Cond.selects "java/lang/String" ({ cls := "java/lang/String", name := "coder", desc := "()B" } : Jvm.MethodName) ({ cls := "java/lang/String", name := "coder", desc := "()B" } : Jvm.MethodName)) ∈ lw_all := lw_g (lw_at lw_m4 166 rfl) rfl
theorem q997 : (Jvm.Cond.code ({ cls := "java/lang/String", name := "coder", desc := "()B" } : Jvm.MethodName) prog_37_method_152_code (1 : Nat) (Option.some Jvm.ClassFile.FieldType.byte)) ∈ lw_all := lw_g (lw_at lw_m4 167 rfl) rfl
theorem q998 : (Jvm.Cond.fieldLink "java/lang/String" (38 : Nat) "java/lang/String" "COMPACT_STRINGS" "Z") ∈ lw_all := lw_g (lw_at lw_m4 168 rfl) rfl
theorem q999 : (Jvm.Cond.laysStatic "java/lang/String" "COMPACT_STRINGS" "Z") ∈ lw_tbl := lw_at lw_m4 169 rfl
theorem q1005 : (Jvm.Cond.instanceMethod ({ cls := "java/lang/String", name := "charAt", desc := "(I)C" } : Jvm.MethodName)) ∈ lw_all := lw_g (lw_at lw_m4 175 rfl) rfl
theorem q1006 : (Jvm.Cond.selects "java/lang/String" ({ cls := "java/lang/String", name := "charAt", desc := "(I)C" } : Jvm.MethodName) ({ cls := "java/lang/String", name := "charAt", desc := "(I)C" } : Jvm.MethodName)) ∈ lw_all := lw_g (lw_at lw_m4 176 rfl) rfl
theorem q1007 : (Jvm.Cond.code ({ cls := "java/lang/String", name := "charAt", desc := "(I)C" } : Jvm.MethodName) prog_37_method_56_code (2 : Nat) (Option.some Jvm.ClassFile.FieldType.char)) ∈ lw_all := lw_g (lw_at lw_m4 177 rfl) rfl
theorem q1008 : (Jvm.Cond.methodLink "java/lang/String" (492 : Nat) ({ cls := "java/lang/String", name := "isLatin1", desc := "()Z" } : Jvm.MethodName)) ∈ lw_all := lw_g (lw_at lw_m4 178 rfl) rfl
theorem q1009 : (Jvm.Cond.instanceMethod ({ cls := "java/lang/String", name := "isLatin1", desc := "()Z" } : Jvm.MethodName)) ∈ lw_all := lw_g (lw_at lw_m4 179 rfl) rfl
theorem q1010 : (Jvm.Cond.selects "java/lang/String" ({ cls := "java/lang/String", name := "isLatin1", desc := "()Z" } : Jvm.MethodName) ({ cls := "java/lang/String", name := "isLatin1", desc := "()Z" } : Jvm.MethodName)) ∈ lw_all := lw_g (lw_at lw_m4 180 rfl) rfl
theorem q1011 : (Jvm.Cond.code ({ cls := "java/lang/String", name := "isLatin1", desc := "()Z" } : Jvm.MethodName) prog_37_method_154_code (1 : Nat) (Option.some Jvm.ClassFile.FieldType.boolean)) ∈ lw_all := lw_g (lw_at lw_m4 181 rfl) rfl
theorem q1012 : (Jvm.Cond.methodLink "java/lang/String" (495 : Nat) ({ cls := "java/lang/StringLatin1", name := "charAt", desc := "([BI)C" } : Jvm.MethodName)) ∈ lw_all := lw_g (lw_at lw_m4 182 rfl) rfl
theorem q1016 : (Jvm.Cond.static ({ cls := "java/lang/String", name := "checkIndex", desc := "(II)V" } : Jvm.MethodName)) ∈ lw_all := lw_g (lw_at lw_m4 186 rfl) rfl
theorem q1017 : (Jvm.Cond.code ({ cls := "java/lang/String", name := "checkIndex", desc := "(II)V" } : Jvm.MethodName) prog_37_method_155_code (2 : Nat) (Option.none : Option Jvm.ClassFile.FieldType)) ∈ lw_all := lw_g (lw_at lw_m4 187 rfl) rfl
theorem q1018 : (Jvm.Cond.fieldLink "java/lang/String" (1053 : Nat) "jdk/internal/util/Preconditions" "SIOOBE_FORMATTER" "Ljava/util/function/BiFunction;") ∈ lw_all := lw_g (lw_at lw_m4 188 rfl) rfl
theorem q1020 : (Jvm.Cond.methodLink "java/lang/String" (1059 : Nat) ({ cls := "jdk/internal/util/Preconditions", name := "checkIndex", desc := "(IILjava/util/function/BiFunction;)I" } : Jvm.MethodName)) ∈ lw_all := lw_g (lw_at lw_m4 190 rfl) rfl
theorem q1021 : (Jvm.Cond.methodLink "java/lang/String" (498 : Nat) ({ cls := "java/lang/StringUTF16", name := "charAt", desc := "([BI)C" } : Jvm.MethodName)) ∈ lw_all := lw_g (lw_at lw_m4 191 rfl) rfl
theorem q2539 : (Jvm.Cond.castable "java/lang/String" "java/lang/Object") ∈ lw_tbl := lw_at lw_m11 29 rfl
theorem q2550 : (Jvm.Cond.fieldLink "java/lang/String" (9 : Nat) "java/lang/String" "value" "[B") ∈ lw_all := lw_g (lw_at lw_m11 40 rfl) rfl
theorem q2551 : (Jvm.Cond.fieldLink "java/lang/String" (15 : Nat) "java/lang/String" "coder" "B") ∈ lw_all := lw_g (lw_at lw_m11 41 rfl) rfl
theorem in_J8 : ∀ w ∈ wsJ80, w ∈ lw_all := lw_in wsJ80 [811, 813] (by decide +kernel) (by decide +kernel)
/-! java/lang/IllegalArgumentException -/
def RJ9 : String := "java/lang/IllegalArgumentException"
def TJ9 : u_T := fun k => match k with
  | 0 => ("java/lang/Throwable", "cause", "Ljava/lang/Throwable;", false)
  | 1 => ("java/lang/Throwable", "stackTrace", "[Ljava/lang/StackTraceElement;", false)
  | 2 => ("java/lang/Throwable", "suppressedExceptions", "Ljava/util/List;", false)
  | 3 => ("java/lang/Throwable", "detailMessage", "Ljava/lang/String;", false)
  | 4 => ("java/lang/Throwable", "backtrace", "Ljava/lang/Object;", false)
  | _ => ("java/lang/Throwable", "depth", "I", false)
def tyJ9 : Nat → FieldType := fun k => match k with
  | 0 => .object "java/lang/Throwable"
  | 1 => .array (.object "java/lang/StackTraceElement")
  | 2 => .object "java/util/List"
  | 3 => .object "java/lang/String"
  | 4 => .object "java/lang/Object"
  | _ => .int
abbrev wsJ90 : List Cond := u_ws RJ9 TJ9 6
theorem nmJ9 : ∀ a, a < 6 → ∀ b, b < 6 → a ≠ b → (TJ9 a).2.1 ≠ (TJ9 b).2.1 := by decide +kernel
theorem tyJ9_ok : ∀ k, k < 6 → parseFieldDescriptor (TJ9 k).2.2.1 = some (tyJ9 k) := by decide +kernel
abbrev cJ9_init : ByteArray := prog_30_method_1_code
def yJ9_init : MethodName := ⟨RJ9, "<init>", "()V"⟩
theorem q130 : (Jvm.Cond.initialized "java/lang/IllegalArgumentException") ∈ lw_all := lw_g (lw_at lw_m1 20 rfl) rfl
theorem q680 : (Jvm.Cond.selects "java/lang/IllegalArgumentException" ({ cls := "java/lang/Object", name := "getClass", desc := "()Ljava/lang/Class;" } : Jvm.MethodName) ({ cls := "java/lang/Object", name := "getClass", desc := "()Ljava/lang/Class;" } : Jvm.MethodName)) ∈ lw_all := lw_g (lw_at lw_m3 90 rfl) rfl
theorem q763 : (Jvm.Cond.selects "java/lang/IllegalArgumentException" ({ cls := "java/lang/Throwable", name := "fillInStackTrace", desc := "()Ljava/lang/Throwable;" } : Jvm.MethodName) ({ cls := "java/lang/Throwable", name := "fillInStackTrace", desc := "()Ljava/lang/Throwable;" } : Jvm.MethodName)) ∈ lw_all := lw_g (lw_at lw_m3 173 rfl) rfl
theorem q852 : (Jvm.Cond.instantiable "java/lang/IllegalArgumentException" (6 : Nat)) ∈ lw_all := lw_g (lw_at lw_m4 22 rfl) rfl
theorem q853 : (Jvm.Cond.castable "java/lang/IllegalArgumentException" "java/lang/IllegalArgumentException") ∈ lw_tbl := lw_at lw_m4 23 rfl
theorem q854 : (Jvm.Cond.selects "java/lang/IllegalArgumentException" ({ cls := "java/lang/Throwable", name := "fillInStackTrace", desc := "(I)Ljava/lang/Throwable;" } : Jvm.MethodName) ({ cls := "java/lang/Throwable", name := "fillInStackTrace", desc := "(I)Ljava/lang/Throwable;" } : Jvm.MethodName)) ∈ lw_all := lw_g (lw_at lw_m4 24 rfl) rfl
theorem q855 : (Jvm.Cond.lays "java/lang/IllegalArgumentException" "java/lang/Throwable" "cause" "Ljava/lang/Throwable;") ∈ lw_all := lw_g (lw_at lw_m4 25 rfl) rfl
theorem q856 : (Jvm.Cond.lays "java/lang/IllegalArgumentException" "java/lang/Throwable" "stackTrace" "[Ljava/lang/StackTraceElement;") ∈ lw_all := lw_g (lw_at lw_m4 26 rfl) rfl
theorem q857 : (Jvm.Cond.lays "java/lang/IllegalArgumentException" "java/lang/Throwable" "suppressedExceptions" "Ljava/util/List;") ∈ lw_all := lw_g (lw_at lw_m4 27 rfl) rfl
theorem q858 : (Jvm.Cond.lays "java/lang/IllegalArgumentException" "java/lang/Throwable" "detailMessage" "Ljava/lang/String;") ∈ lw_all := lw_g (lw_at lw_m4 28 rfl) rfl
theorem q859 : (Jvm.Cond.lays "java/lang/IllegalArgumentException" "java/lang/Throwable" "backtrace" "Ljava/lang/Object;") ∈ lw_all := lw_g (lw_at lw_m4 29 rfl) rfl
theorem q861 : (Jvm.Cond.instanceMethod ({ cls := "java/lang/IllegalArgumentException", name := "<init>", desc := "()V" } : Jvm.MethodName)) ∈ lw_all := lw_g (lw_at lw_m4 31 rfl) rfl
theorem q862 : (Jvm.Cond.code ({ cls := "java/lang/IllegalArgumentException", name := "<init>", desc := "()V" } : Jvm.MethodName) prog_30_method_1_code (1 : Nat) (Option.none : Option Jvm.ClassFile.FieldType)) ∈ lw_all := lw_g (lw_at lw_m4 32 rfl) rfl
theorem q863 : (Jvm.Cond.methodLink "java/lang/IllegalArgumentException" (1 : Nat) ({ cls := "java/lang/RuntimeException", name := "<init>", desc := "()V" } : Jvm.MethodName)) ∈ lw_all := lw_g (lw_at lw_m4 33 rfl) rfl
theorem q864 : (Jvm.Cond.lays "java/lang/IllegalArgumentException" "java/lang/Throwable" "depth" "I") ∈ lw_all := lw_g (lw_at lw_m4 34 rfl) rfl
theorem q865 : (Jvm.Cond.superclass "java/lang/IllegalArgumentException" "java/lang/RuntimeException") ∈ lw_all := lw_g (lw_at lw_m4 35 rfl) rfl
theorem q2524 : (Jvm.Cond.castable "java/lang/IllegalArgumentException" "java/lang/Object") ∈ lw_tbl := lw_at lw_m11 14 rfl
theorem in_J9 : ∀ w ∈ wsJ90, w ∈ lw_all := lw_in wsJ90 [855, 856, 857, 858, 859, 864] (by decide +kernel) (by decide +kernel)
/-! java/util/Objects -/
def RJ10 : String := "java/util/Objects"
abbrev cJ10_checkIndex : ByteArray := prog_51_method_17_code
def yJ10_checkIndex : MethodName := ⟨RJ10, "checkIndex", "(II)I"⟩
theorem q131 : (Jvm.Cond.initialized "java/util/Objects") ∈ lw_all := lw_g (lw_at lw_m1 21 rfl) rfl
theorem q523 : (Jvm.Cond.static ({ cls := "java/util/Objects", name := "checkIndex", desc := "(II)I" } : Jvm.MethodName)) ∈ lw_all := lw_g (lw_at lw_m2 173 rfl) rfl
theorem q524 : (Jvm.Cond.code ({ cls := "java/util/Objects", name := "checkIndex", desc := "(II)I" } : Jvm.MethodName) prog_51_method_17_code (2 : Nat) (Option.some Jvm.ClassFile.FieldType.int)) ∈ lw_all := lw_g (lw_at lw_m2 174 rfl) rfl
theorem q525 : (Jvm.Cond.methodLink "java/util/Objects" (105 : Nat) ({ cls := "jdk/internal/util/Preconditions", name := "checkIndex", desc := "(IILjava/util/function/BiFunction;)I" } : Jvm.MethodName)) ∈ lw_all := lw_g (lw_at lw_m2 175 rfl) rfl
/-! jdk/internal/util/Preconditions -/
def RJ11 : String := "jdk/internal/util/Preconditions"
abbrev cJ11_checkIndex : ByteArray := prog_55_method_11_code
def yJ11_checkIndex : MethodName := ⟨RJ11, "checkIndex", "(IILjava/util/function/BiFunction;)I"⟩
theorem q132 : (Jvm.Cond.initialized "jdk/internal/util/Preconditions") ∈ lw_all := lw_g (lw_at lw_m1 22 rfl) rfl
theorem q526 : (Jvm.Cond.static ({ cls := "jdk/internal/util/Preconditions", name := "checkIndex", desc := "(IILjava/util/function/BiFunction;)I" } : Jvm.MethodName)) ∈ lw_all := lw_g (lw_at lw_m2 176 rfl) rfl
theorem q527 : (Jvm.Cond.code ({ cls := "jdk/internal/util/Preconditions", name := "checkIndex", desc := "(IILjava/util/function/BiFunction;)I" } : Jvm.MethodName) prog_55_method_11_code (3 : Nat) (Option.some Jvm.ClassFile.FieldType.int)) ∈ lw_all := lw_g (lw_at lw_m2 177 rfl) rfl
theorem q1019 : (Jvm.Cond.laysStatic "jdk/internal/util/Preconditions" "SIOOBE_FORMATTER" "Ljava/util/function/BiFunction;") ∈ lw_tbl := lw_at lw_m4 189 rfl
/-! java/lang/IllegalStateException -/
def RJ12 : String := "java/lang/IllegalStateException"
def TJ12 : u_T := fun k => match k with
  | 0 => ("java/lang/Throwable", "cause", "Ljava/lang/Throwable;", false)
  | 1 => ("java/lang/Throwable", "stackTrace", "[Ljava/lang/StackTraceElement;", false)
  | 2 => ("java/lang/Throwable", "suppressedExceptions", "Ljava/util/List;", false)
  | 3 => ("java/lang/Throwable", "detailMessage", "Ljava/lang/String;", false)
  | 4 => ("java/lang/Throwable", "backtrace", "Ljava/lang/Object;", false)
  | _ => ("java/lang/Throwable", "depth", "I", false)
def tyJ12 : Nat → FieldType := fun k => match k with
  | 0 => .object "java/lang/Throwable"
  | 1 => .array (.object "java/lang/StackTraceElement")
  | 2 => .object "java/util/List"
  | 3 => .object "java/lang/String"
  | 4 => .object "java/lang/Object"
  | _ => .int
abbrev wsJ120 : List Cond := u_ws RJ12 TJ12 6
theorem nmJ12 : ∀ a, a < 6 → ∀ b, b < 6 → a ≠ b → (TJ12 a).2.1 ≠ (TJ12 b).2.1 := by decide +kernel
theorem tyJ12_ok : ∀ k, k < 6 → parseFieldDescriptor (TJ12 k).2.2.1 = some (tyJ12 k) := by decide +kernel
abbrev cJ12_init : ByteArray := prog_31_method_1_code
def yJ12_init : MethodName := ⟨RJ12, "<init>", "()V"⟩
theorem q133 : (Jvm.Cond.initialized "java/lang/IllegalStateException") ∈ lw_all := lw_g (lw_at lw_m1 23 rfl) rfl
theorem q681 : (Jvm.Cond.selects "java/lang/IllegalStateException" ({ cls := "java/lang/Object", name := "getClass", desc := "()Ljava/lang/Class;" } : Jvm.MethodName) ({ cls := "java/lang/Object", name := "getClass", desc := "()Ljava/lang/Class;" } : Jvm.MethodName)) ∈ lw_all := lw_g (lw_at lw_m3 91 rfl) rfl
theorem q764 : (Jvm.Cond.selects "java/lang/IllegalStateException" ({ cls := "java/lang/Throwable", name := "fillInStackTrace", desc := "()Ljava/lang/Throwable;" } : Jvm.MethodName) ({ cls := "java/lang/Throwable", name := "fillInStackTrace", desc := "()Ljava/lang/Throwable;" } : Jvm.MethodName)) ∈ lw_all := lw_g (lw_at lw_m3 174 rfl) rfl
theorem q871 : (Jvm.Cond.instantiable "java/lang/IllegalStateException" (6 : Nat)) ∈ lw_all := lw_g (lw_at lw_m4 41 rfl) rfl
theorem q872 : (Jvm.Cond.castable "java/lang/IllegalStateException" "java/lang/IllegalStateException") ∈ lw_tbl := lw_at lw_m4 42 rfl
theorem q873 : (Jvm.Cond.selects "java/lang/IllegalStateException" ({ cls := "java/lang/Throwable", name := "fillInStackTrace", desc := "(I)Ljava/lang/Throwable;" } : Jvm.MethodName) ({ cls := "java/lang/Throwable", name := "fillInStackTrace", desc := "(I)Ljava/lang/Throwable;" } : Jvm.MethodName)) ∈ lw_all := lw_g (lw_at lw_m4 43 rfl) rfl
theorem q874 : (Jvm.Cond.lays "java/lang/IllegalStateException" "java/lang/Throwable" "cause" "Ljava/lang/Throwable;") ∈ lw_all := lw_g (lw_at lw_m4 44 rfl) rfl
theorem q875 : (Jvm.Cond.lays "java/lang/IllegalStateException" "java/lang/Throwable" "stackTrace" "[Ljava/lang/StackTraceElement;") ∈ lw_all := lw_g (lw_at lw_m4 45 rfl) rfl
theorem q876 : (Jvm.Cond.lays "java/lang/IllegalStateException" "java/lang/Throwable" "suppressedExceptions" "Ljava/util/List;") ∈ lw_all := lw_g (lw_at lw_m4 46 rfl) rfl
theorem q877 : (Jvm.Cond.lays "java/lang/IllegalStateException" "java/lang/Throwable" "detailMessage" "Ljava/lang/String;") ∈ lw_all := lw_g (lw_at lw_m4 47 rfl) rfl
theorem q878 : (Jvm.Cond.lays "java/lang/IllegalStateException" "java/lang/Throwable" "backtrace" "Ljava/lang/Object;") ∈ lw_all := lw_g (lw_at lw_m4 48 rfl) rfl
theorem q880 : (Jvm.Cond.instanceMethod ({ cls := "java/lang/IllegalStateException", name := "<init>", desc := "()V" } : Jvm.MethodName)) ∈ lw_all := lw_g (lw_at lw_m4 50 rfl) rfl
theorem q881 : (Jvm.Cond.code ({ cls := "java/lang/IllegalStateException", name := "<init>", desc := "()V" } : Jvm.MethodName) prog_31_method_1_code (1 : Nat) (Option.none : Option Jvm.ClassFile.FieldType)) ∈ lw_all := lw_g (lw_at lw_m4 51 rfl) rfl
theorem q882 : (Jvm.Cond.methodLink "java/lang/IllegalStateException" (1 : Nat) ({ cls := "java/lang/RuntimeException", name := "<init>", desc := "()V" } : Jvm.MethodName)) ∈ lw_all := lw_g (lw_at lw_m4 52 rfl) rfl
theorem q883 : (Jvm.Cond.lays "java/lang/IllegalStateException" "java/lang/Throwable" "depth" "I") ∈ lw_all := lw_g (lw_at lw_m4 53 rfl) rfl
theorem q884 : (Jvm.Cond.superclass "java/lang/IllegalStateException" "java/lang/RuntimeException") ∈ lw_all := lw_g (lw_at lw_m4 54 rfl) rfl
theorem q2525 : (Jvm.Cond.castable "java/lang/IllegalStateException" "java/lang/Object") ∈ lw_tbl := lw_at lw_m11 15 rfl
theorem in_J12 : ∀ w ∈ wsJ120, w ∈ lw_all := lw_in wsJ120 [874, 875, 876, 877, 878, 883] (by decide +kernel) (by decide +kernel)
/-! java/lang/Math -/
def RJ13 : String := "java/lang/Math"
abbrev cJ13_min : ByteArray := prog_35_method_69_code
def yJ13_min : MethodName := ⟨RJ13, "min", "(II)I"⟩
abbrev cJ13_abs : ByteArray := prog_35_method_59_code
def yJ13_abs : MethodName := ⟨RJ13, "abs", "(I)I"⟩
abbrev cJ13_max : ByteArray := prog_35_method_65_code
def yJ13_max : MethodName := ⟨RJ13, "max", "(II)I"⟩
theorem q134 : (Jvm.Cond.initialized "java/lang/Math") ∈ lw_all := lw_g (lw_at lw_m1 24 rfl) rfl
theorem q505 : (Jvm.Cond.static ({ cls := "java/lang/Math", name := "min", desc := "(II)I" } : Jvm.MethodName)) ∈ lw_all := lw_g (lw_at lw_m2 155 rfl) rfl
theorem q506 : (Jvm.Cond.code ({ cls := "java/lang/Math", name := "min", desc := "(II)I" } : Jvm.MethodName) prog_35_method_69_code (2 : Nat) (Option.some Jvm.ClassFile.FieldType.int)) ∈ lw_all := lw_g (lw_at lw_m2 156 rfl) rfl
theorem q560 : (Jvm.Cond.static ({ cls := "java/lang/Math", name := "abs", desc := "(I)I" } : Jvm.MethodName)) ∈ lw_all := lw_g (lw_at lw_m2 210 rfl) rfl
theorem q561 : (Jvm.Cond.code ({ cls := "java/lang/Math", name := "abs", desc := "(I)I" } : Jvm.MethodName) prog_35_method_59_code (1 : Nat) (Option.some Jvm.ClassFile.FieldType.int)) ∈ lw_all := lw_g (lw_at lw_m2 211 rfl) rfl
theorem q604 : (Jvm.Cond.static ({ cls := "java/lang/Math", name := "max", desc := "(II)I" } : Jvm.MethodName)) ∈ lw_all := lw_g (lw_at lw_m3 14 rfl) rfl
theorem q605 : (Jvm.Cond.code ({ cls := "java/lang/Math", name := "max", desc := "(II)I" } : Jvm.MethodName) prog_35_method_65_code (2 : Nat) (Option.some Jvm.ClassFile.FieldType.int)) ∈ lw_all := lw_g (lw_at lw_m3 15 rfl) rfl
/-! ElephantEdge$Wrong -/
def RX11 : String := "ElephantEdge$Wrong"
def TX11 : u_T := fun k => match k with
  | 0 => ("java/lang/Throwable", "cause", "Ljava/lang/Throwable;", false)
  | 1 => ("java/lang/Throwable", "stackTrace", "[Ljava/lang/StackTraceElement;", false)
  | 2 => ("java/lang/Throwable", "suppressedExceptions", "Ljava/util/List;", false)
  | 3 => ("java/lang/Throwable", "detailMessage", "Ljava/lang/String;", false)
  | 4 => ("java/lang/Throwable", "backtrace", "Ljava/lang/Object;", false)
  | _ => ("java/lang/Throwable", "depth", "I", false)
def tyX11 : Nat → FieldType := fun k => match k with
  | 0 => .object "java/lang/Throwable"
  | 1 => .array (.object "java/lang/StackTraceElement")
  | 2 => .object "java/util/List"
  | 3 => .object "java/lang/String"
  | 4 => .object "java/lang/Object"
  | _ => .int
abbrev wsX110 : List Cond := u_ws RX11 TX11 6
theorem nmX11 : ∀ a, a < 6 → ∀ b, b < 6 → a ≠ b → (TX11 a).2.1 ≠ (TX11 b).2.1 := by decide +kernel
theorem tyX11_ok : ∀ k, k < 6 → parseFieldDescriptor (TX11 k).2.2.1 = some (tyX11 k) := by decide +kernel
abbrev cX11_init : ByteArray := prog_21_method_1_code
def yX11_init : MethodName := ⟨RX11, "<init>", "()V"⟩
theorem q135 : (Jvm.Cond.initialized "ElephantEdge$Wrong") ∈ lw_all := lw_g (lw_at lw_m1 25 rfl) rfl
theorem q677 : (Jvm.Cond.selects "ElephantEdge$Wrong" ({ cls := "java/lang/Object", name := "getClass", desc := "()Ljava/lang/Class;" } : Jvm.MethodName) ({ cls := "java/lang/Object", name := "getClass", desc := "()Ljava/lang/Class;" } : Jvm.MethodName)) ∈ lw_all := lw_g (lw_at lw_m3 87 rfl) rfl
theorem q761 : (Jvm.Cond.selects "ElephantEdge$Wrong" ({ cls := "java/lang/Throwable", name := "fillInStackTrace", desc := "()Ljava/lang/Throwable;" } : Jvm.MethodName) ({ cls := "java/lang/Throwable", name := "fillInStackTrace", desc := "()Ljava/lang/Throwable;" } : Jvm.MethodName)) ∈ lw_all := lw_g (lw_at lw_m3 171 rfl) rfl
theorem q967 : (Jvm.Cond.instantiable "ElephantEdge$Wrong" (6 : Nat)) ∈ lw_all := lw_g (lw_at lw_m4 137 rfl) rfl
theorem q968 : (Jvm.Cond.castable "ElephantEdge$Wrong" "ElephantEdge$Wrong") ∈ lw_tbl := lw_at lw_m4 138 rfl
theorem q969 : (Jvm.Cond.selects "ElephantEdge$Wrong" ({ cls := "java/lang/Throwable", name := "fillInStackTrace", desc := "(I)Ljava/lang/Throwable;" } : Jvm.MethodName) ({ cls := "java/lang/Throwable", name := "fillInStackTrace", desc := "(I)Ljava/lang/Throwable;" } : Jvm.MethodName)) ∈ lw_all := lw_g (lw_at lw_m4 139 rfl) rfl
theorem q970 : (Jvm.Cond.lays "ElephantEdge$Wrong" "java/lang/Throwable" "cause" "Ljava/lang/Throwable;") ∈ lw_all := lw_g (lw_at lw_m4 140 rfl) rfl
theorem q971 : (Jvm.Cond.lays "ElephantEdge$Wrong" "java/lang/Throwable" "stackTrace" "[Ljava/lang/StackTraceElement;") ∈ lw_all := lw_g (lw_at lw_m4 141 rfl) rfl
theorem q972 : (Jvm.Cond.lays "ElephantEdge$Wrong" "java/lang/Throwable" "suppressedExceptions" "Ljava/util/List;") ∈ lw_all := lw_g (lw_at lw_m4 142 rfl) rfl
theorem q973 : (Jvm.Cond.lays "ElephantEdge$Wrong" "java/lang/Throwable" "detailMessage" "Ljava/lang/String;") ∈ lw_all := lw_g (lw_at lw_m4 143 rfl) rfl
theorem q974 : (Jvm.Cond.lays "ElephantEdge$Wrong" "java/lang/Throwable" "backtrace" "Ljava/lang/Object;") ∈ lw_all := lw_g (lw_at lw_m4 144 rfl) rfl
theorem q976 : (Jvm.Cond.instanceMethod ({ cls := "ElephantEdge$Wrong", name := "<init>", desc := "()V" } : Jvm.MethodName)) ∈ lw_all := lw_g (lw_at lw_m4 146 rfl) rfl
theorem q977 : (Jvm.Cond.code ({ cls := "ElephantEdge$Wrong", name := "<init>", desc := "()V" } : Jvm.MethodName) prog_21_method_1_code (1 : Nat) (Option.none : Option Jvm.ClassFile.FieldType)) ∈ lw_all := lw_g (lw_at lw_m4 147 rfl) rfl
theorem q978 : (Jvm.Cond.methodLink "ElephantEdge$Wrong" (1 : Nat) ({ cls := "java/lang/Exception", name := "<init>", desc := "()V" } : Jvm.MethodName)) ∈ lw_all := lw_g (lw_at lw_m4 148 rfl) rfl
theorem q979 : (Jvm.Cond.lays "ElephantEdge$Wrong" "java/lang/Throwable" "depth" "I") ∈ lw_all := lw_g (lw_at lw_m4 149 rfl) rfl
theorem q980 : (Jvm.Cond.superclass "ElephantEdge$Wrong" "java/lang/Exception") ∈ lw_all := lw_g (lw_at lw_m4 150 rfl) rfl
theorem q2526 : (Jvm.Cond.castable "ElephantEdge$Wrong" "java/lang/Object") ∈ lw_tbl := lw_at lw_m11 16 rfl
theorem in_X11 : ∀ w ∈ wsX110, w ∈ lw_all := lw_in wsX110 [970, 971, 972, 973, 974, 979] (by decide +kernel) (by decide +kernel)
/-! java/lang/StringLatin1 -/
def RJ14 : String := "java/lang/StringLatin1"
abbrev cJ14_charAt : ByteArray := prog_38_method_2_code
def yJ14_charAt : MethodName := ⟨RJ14, "charAt", "([BI)C"⟩
theorem q136 : (Jvm.Cond.initialized "java/lang/StringLatin1") ∈ lw_all := lw_g (lw_at lw_m1 26 rfl) rfl
theorem q1013 : (Jvm.Cond.static ({ cls := "java/lang/StringLatin1", name := "charAt", desc := "([BI)C" } : Jvm.MethodName)) ∈ lw_all := lw_g (lw_at lw_m4 183 rfl) rfl
theorem q1014 : (Jvm.Cond.code ({ cls := "java/lang/StringLatin1", name := "charAt", desc := "([BI)C" } : Jvm.MethodName) prog_38_method_2_code (2 : Nat) (Option.some Jvm.ClassFile.FieldType.char)) ∈ lw_all := lw_g (lw_at lw_m4 184 rfl) rfl
theorem q1015 : (Jvm.Cond.methodLink "java/lang/StringLatin1" (9 : Nat) ({ cls := "java/lang/String", name := "checkIndex", desc := "(II)V" } : Jvm.MethodName)) ∈ lw_all := lw_g (lw_at lw_m4 185 rfl) rfl
/-! java/lang/StringUTF16 -/
def RJ15 : String := "java/lang/StringUTF16"
abbrev cJ15_charAt : ByteArray := prog_39_method_83_code
def yJ15_charAt : MethodName := ⟨RJ15, "charAt", "([BI)C"⟩
abbrev cJ15_checkIndex : ByteArray := prog_39_method_91_code
def yJ15_checkIndex : MethodName := ⟨RJ15, "checkIndex", "(I[B)V"⟩
abbrev cJ15_length : ByteArray := prog_39_method_6_code
def yJ15_length : MethodName := ⟨RJ15, "length", "([B)I"⟩
abbrev cJ15_getChar : ByteArray := prog_39_method_5_code
def yJ15_getChar : MethodName := ⟨RJ15, "getChar", "([BI)C"⟩
theorem q137 : (Jvm.Cond.initialized "java/lang/StringUTF16") ∈ lw_all := lw_g (lw_at lw_m1 27 rfl) rfl
theorem q1022 : (Jvm.Cond.static ({ cls := "java/lang/StringUTF16", name := "charAt", desc := "([BI)C" } : Jvm.MethodName)) ∈ lw_all := lw_g (lw_at lw_m4 192 rfl) rfl
theorem q1023 : (Jvm.Cond.code ({ cls := "java/lang/StringUTF16", name := "charAt", desc := "([BI)C" } : Jvm.MethodName) prog_39_method_83_code (2 : Nat) (Option.some Jvm.ClassFile.FieldType.char)) ∈ lw_all := lw_g (lw_at lw_m4 193 rfl) rfl
theorem q1024 : (Jvm.Cond.methodLink "java/lang/StringUTF16" (67 : Nat) ({ cls := "java/lang/StringUTF16", name := "checkIndex", desc := "(I[B)V" } : Jvm.MethodName)) ∈ lw_all := lw_g (lw_at lw_m4 194 rfl) rfl
theorem q1025 : (Jvm.Cond.static ({ cls := "java/lang/StringUTF16", name := "checkIndex", desc := "(I[B)V" } : Jvm.MethodName)) ∈ lw_all := lw_g (lw_at lw_m4 195 rfl) rfl
theorem q1026 : (Jvm.Cond.code ({ cls := "java/lang/StringUTF16", name := "checkIndex", desc := "(I[B)V" } : Jvm.MethodName) prog_39_method_91_code (2 : Nat) (Option.none : Option Jvm.ClassFile.FieldType)) ∈ lw_all := lw_g (lw_at lw_m4 196 rfl) rfl
theorem q1027 : (Jvm.Cond.methodLink "java/lang/StringUTF16" (48 : Nat) ({ cls := "java/lang/StringUTF16", name := "length", desc := "([B)I" } : Jvm.MethodName)) ∈ lw_all := lw_g (lw_at lw_m4 197 rfl) rfl
theorem q1028 : (Jvm.Cond.static ({ cls := "java/lang/StringUTF16", name := "length", desc := "([B)I" } : Jvm.MethodName)) ∈ lw_all := lw_g (lw_at lw_m4 198 rfl) rfl
theorem q1029 : (Jvm.Cond.code ({ cls := "java/lang/StringUTF16", name := "length", desc := "([B)I" } : Jvm.MethodName) prog_39_method_6_code (1 : Nat) (Option.some Jvm.ClassFile.FieldType.int)) ∈ lw_all := lw_g (lw_at lw_m4 199 rfl) rfl
theorem q1030 : (Jvm.Cond.methodLink "java/lang/StringUTF16" (414 : Nat) ({ cls := "java/lang/String", name := "checkIndex", desc := "(II)V" } : Jvm.MethodName)) ∈ lw_all := lw_g (lw_at lw_m4 200 rfl) rfl
theorem q1031 : (Jvm.Cond.methodLink "java/lang/StringUTF16" (71 : Nat) ({ cls := "java/lang/StringUTF16", name := "getChar", desc := "([BI)C" } : Jvm.MethodName)) ∈ lw_all := lw_g (lw_at lw_m4 201 rfl) rfl
theorem q1032 : (Jvm.Cond.static ({ cls := "java/lang/StringUTF16", name := "getChar", desc := "([BI)C" } : Jvm.MethodName)) ∈ lw_all := lw_g (lw_at lw_m4 202 rfl) rfl
theorem q1033 : (Jvm.Cond.code ({ cls := "java/lang/StringUTF16", name := "getChar", desc := "([BI)C" } : Jvm.MethodName) prog_39_method_5_code (2 : Nat) (Option.some Jvm.ClassFile.FieldType.char)) ∈ lw_all := lw_g (lw_at lw_m4 203 rfl) rfl
theorem q1034 : (Jvm.Cond.fieldLink "java/lang/StringUTF16" (44 : Nat) "java/lang/StringUTF16" "$assertionsDisabled" "Z") ∈ lw_all := lw_g (lw_at lw_m4 204 rfl) rfl
theorem q1035 : (Jvm.Cond.laysStatic "java/lang/StringUTF16" "$assertionsDisabled" "Z") ∈ lw_tbl := lw_at lw_m4 205 rfl
theorem q1036 : (Jvm.Cond.fieldLink "java/lang/StringUTF16" (59 : Nat) "java/lang/StringUTF16" "HI_BYTE_SHIFT" "I") ∈ lw_all := lw_g (lw_at lw_m4 206 rfl) rfl
theorem q1037 : (Jvm.Cond.laysStatic "java/lang/StringUTF16" "HI_BYTE_SHIFT" "I") ∈ lw_tbl := lw_at lw_m4 207 rfl
theorem q1038 : (Jvm.Cond.fieldLink "java/lang/StringUTF16" (63 : Nat) "java/lang/StringUTF16" "LO_BYTE_SHIFT" "I") ∈ lw_all := lw_g (lw_at lw_m4 208 rfl) rfl
theorem q1039 : (Jvm.Cond.laysStatic "java/lang/StringUTF16" "LO_BYTE_SHIFT" "I") ∈ lw_tbl := lw_at lw_m4 209 rfl
/-! ElephantEdge$Held -/
def RX12 : String := "ElephantEdge$Held"
def TX12 : u_T := fun k => match k with
  | 0 => ("ElephantEdge$Two", "one", "LElephantEdge$Formula;", true)
  | 1 => ("ElephantEdge$Two", "other", "LElephantEdge$Formula;", true)
  | _ => ("ElephantEdge$Held", "sign", "I", true)
def tyX12 : Nat → FieldType := fun k => match k with
  | 0 => .object "ElephantEdge$Formula"
  | 1 => .object "ElephantEdge$Formula"
  | _ => .int
abbrev wsX120 : List Cond := u_ws RX12 TX12 3
theorem nmX12 : ∀ a, a < 3 → ∀ b, b < 3 → a ≠ b → (TX12 a).2.1 ≠ (TX12 b).2.1 := by decide +kernel
theorem tyX12_ok : ∀ k, k < 3 → parseFieldDescriptor (TX12 k).2.2.1 = some (tyX12 k) := by decide +kernel
abbrev cX12_init : ByteArray := prog_4_method_1_code
def yX12_init : MethodName := ⟨RX12, "<init>", "(ILElephantEdge$Formula;LElephantEdge$Formula;)V"⟩
abbrev cX12_of : ByteArray := prog_4_method_2_code
def yX12_of : MethodName := ⟨RX12, "of", "(II)I"⟩
theorem q138 : (Jvm.Cond.initialized "ElephantEdge$Held") ∈ lw_all := lw_g (lw_at lw_m1 28 rfl) rfl
theorem q661 : (Jvm.Cond.selects "ElephantEdge$Held" ({ cls := "java/lang/Object", name := "getClass", desc := "()Ljava/lang/Class;" } : Jvm.MethodName) ({ cls := "java/lang/Object", name := "getClass", desc := "()Ljava/lang/Class;" } : Jvm.MethodName)) ∈ lw_all := lw_g (lw_at lw_m3 71 rfl) rfl
theorem q1091 : (Jvm.Cond.instantiable "ElephantEdge$Held" (3 : Nat)) ∈ lw_all := lw_g (lw_at lw_m5 21 rfl) rfl
theorem q1093 : (Jvm.Cond.instanceMethod ({ cls := "ElephantEdge$Held", name := "<init>", desc := "(ILElephantEdge$Formula;LElephantEdge$Formula;)V" } : Jvm.MethodName)) ∈ lw_all := lw_g (lw_at lw_m5 23 rfl) rfl
theorem q1094 : (Jvm.Cond.code ({ cls := "ElephantEdge$Held", name := "<init>", desc := "(ILElephantEdge$Formula;LElephantEdge$Formula;)V" } : Jvm.MethodName) prog_4_method_1_code (4 : Nat) (Option.none : Option Jvm.ClassFile.FieldType)) ∈ lw_all := lw_g (lw_at lw_m5 24 rfl) rfl
theorem q1095 : (Jvm.Cond.methodLink "ElephantEdge$Held" (1 : Nat) ({ cls := "ElephantEdge$Two", name := "<init>", desc := "(LElephantEdge$Formula;LElephantEdge$Formula;)V" } : Jvm.MethodName)) ∈ lw_all := lw_g (lw_at lw_m5 25 rfl) rfl
theorem q1096 : (Jvm.Cond.fieldLink "ElephantEdge$Held" (7 : Nat) "ElephantEdge$Held" "sign" "I") ∈ lw_all := lw_g (lw_at lw_m5 26 rfl) rfl
theorem q1097 : (Jvm.Cond.laysFinal "ElephantEdge$Held" "ElephantEdge$Held" "sign" "I") ∈ lw_all := lw_g (lw_at lw_m5 27 rfl) rfl
theorem q1098 : (Jvm.Cond.soleField "ElephantEdge$Held" "sign") ∈ lw_all := lw_g (lw_at lw_m5 28 rfl) rfl
theorem q1099 : (Jvm.Cond.laysFinal "ElephantEdge$Held" "ElephantEdge$Two" "one" "LElephantEdge$Formula;") ∈ lw_all := lw_g (lw_at lw_m5 29 rfl) rfl
theorem q1100 : (Jvm.Cond.laysFinal "ElephantEdge$Held" "ElephantEdge$Two" "other" "LElephantEdge$Formula;") ∈ lw_all := lw_g (lw_at lw_m5 30 rfl) rfl
theorem q1101 : (Jvm.Cond.superclass "ElephantEdge$Held" "ElephantEdge$Two") ∈ lw_all := lw_g (lw_at lw_m5 31 rfl) rfl
theorem q1425 : (Jvm.Cond.castable "ElephantEdge$Held" "ElephantEdge$Formula") ∈ lw_tbl := lw_at lw_m6 115 rfl
theorem q1426 : (Jvm.Cond.selects "ElephantEdge$Held" ({ cls := "ElephantEdge$Formula", name := "value", desc := "([I)I" } : Jvm.MethodName) ({ cls := "ElephantEdge$Two", name := "value", desc := "([I)I" } : Jvm.MethodName)) ∈ lw_all := lw_g (lw_at lw_m6 116 rfl) rfl
theorem q1427 : (Jvm.Cond.unhidden "ElephantEdge$Held" "value" "([I)I") ∈ lw_tbl := lw_at lw_m6 117 rfl
theorem q1465 : (Jvm.Cond.selects "ElephantEdge$Held" ({ cls := "ElephantEdge$Two", name := "of", desc := "(II)I" } : Jvm.MethodName) ({ cls := "ElephantEdge$Held", name := "of", desc := "(II)I" } : Jvm.MethodName)) ∈ lw_all := lw_g (lw_at lw_m6 155 rfl) rfl
theorem q1466 : (Jvm.Cond.instanceMethod ({ cls := "ElephantEdge$Held", name := "of", desc := "(II)I" } : Jvm.MethodName)) ∈ lw_all := lw_g (lw_at lw_m6 156 rfl) rfl
theorem q1467 : (Jvm.Cond.code ({ cls := "ElephantEdge$Held", name := "of", desc := "(II)I" } : Jvm.MethodName) prog_4_method_2_code (3 : Nat) (Option.some Jvm.ClassFile.FieldType.int)) ∈ lw_all := lw_g (lw_at lw_m6 157 rfl) rfl
theorem q2527 : (Jvm.Cond.castable "ElephantEdge$Held" "java/lang/Object") ∈ lw_tbl := lw_at lw_m11 17 rfl
theorem in_X12 : ∀ w ∈ wsX120, w ∈ lw_all := lw_in wsX120 [1099, 1100, 1097] (by decide +kernel) (by decide +kernel)
/-! ElephantEdge$If -/
def RX13 : String := "ElephantEdge$If"
def TX13 : u_T := fun k => match k with
  | 0 => ("ElephantEdge$If", "asked", "LElephantEdge$Formula;", true)
  | 1 => ("ElephantEdge$If", "yes", "LElephantEdge$Formula;", true)
  | _ => ("ElephantEdge$If", "no", "LElephantEdge$Formula;", true)
def tyX13 : Nat → FieldType := fun k => match k with
  | 0 => .object "ElephantEdge$Formula"
  | 1 => .object "ElephantEdge$Formula"
  | _ => .object "ElephantEdge$Formula"
abbrev wsX130 : List Cond := u_ws RX13 TX13 3
theorem nmX13 : ∀ a, a < 3 → ∀ b, b < 3 → a ≠ b → (TX13 a).2.1 ≠ (TX13 b).2.1 := by decide +kernel
theorem tyX13_ok : ∀ k, k < 3 → parseFieldDescriptor (TX13 k).2.2.1 = some (tyX13 k) := by decide +kernel
abbrev cX13_init : ByteArray := prog_6_method_1_code
def yX13_init : MethodName := ⟨RX13, "<init>", "(LElephantEdge$Formula;LElephantEdge$Formula;LElephantEdge$Formula;)V"⟩
abbrev cX13_value : ByteArray := prog_6_method_2_code
def yX13_value : MethodName := ⟨RX13, "value", "([I)I"⟩
theorem q139 : (Jvm.Cond.initialized "ElephantEdge$If") ∈ lw_all := lw_g (lw_at lw_m1 29 rfl) rfl
theorem q663 : (Jvm.Cond.selects "ElephantEdge$If" ({ cls := "java/lang/Object", name := "getClass", desc := "()Ljava/lang/Class;" } : Jvm.MethodName) ({ cls := "java/lang/Object", name := "getClass", desc := "()Ljava/lang/Class;" } : Jvm.MethodName)) ∈ lw_all := lw_g (lw_at lw_m3 73 rfl) rfl
theorem q1107 : (Jvm.Cond.instantiable "ElephantEdge$If" (3 : Nat)) ∈ lw_all := lw_g (lw_at lw_m5 37 rfl) rfl
theorem q1109 : (Jvm.Cond.instanceMethod ({ cls := "ElephantEdge$If", name := "<init>", desc := "(LElephantEdge$Formula;LElephantEdge$Formula;LElephantEdge$Formula;)V" } : Jvm.MethodName)) ∈ lw_all := lw_g (lw_at lw_m5 39 rfl) rfl
theorem q1110 : (Jvm.Cond.code ({ cls := "ElephantEdge$If", name := "<init>", desc := "(LElephantEdge$Formula;LElephantEdge$Formula;LElephantEdge$Formula;)V" } : Jvm.MethodName) prog_6_method_1_code (4 : Nat) (Option.none : Option Jvm.ClassFile.FieldType)) ∈ lw_all := lw_g (lw_at lw_m5 40 rfl) rfl
theorem q1111 : (Jvm.Cond.methodLink "ElephantEdge$If" (1 : Nat) ({ cls := "java/lang/Object", name := "<init>", desc := "()V" } : Jvm.MethodName)) ∈ lw_all := lw_g (lw_at lw_m5 41 rfl) rfl
theorem q1112 : (Jvm.Cond.fieldLink "ElephantEdge$If" (7 : Nat) "ElephantEdge$If" "asked" "LElephantEdge$Formula;") ∈ lw_all := lw_g (lw_at lw_m5 42 rfl) rfl
theorem q1113 : (Jvm.Cond.fieldLink "ElephantEdge$If" (13 : Nat) "ElephantEdge$If" "yes" "LElephantEdge$Formula;") ∈ lw_all := lw_g (lw_at lw_m5 43 rfl) rfl
theorem q1114 : (Jvm.Cond.fieldLink "ElephantEdge$If" (16 : Nat) "ElephantEdge$If" "no" "LElephantEdge$Formula;") ∈ lw_all := lw_g (lw_at lw_m5 44 rfl) rfl
theorem q1115 : (Jvm.Cond.laysFinal "ElephantEdge$If" "ElephantEdge$If" "asked" "LElephantEdge$Formula;") ∈ lw_all := lw_g (lw_at lw_m5 45 rfl) rfl
theorem q1116 : (Jvm.Cond.soleField "ElephantEdge$If" "asked") ∈ lw_all := lw_g (lw_at lw_m5 46 rfl) rfl
theorem q1117 : (Jvm.Cond.laysFinal "ElephantEdge$If" "ElephantEdge$If" "yes" "LElephantEdge$Formula;") ∈ lw_all := lw_g (lw_at lw_m5 47 rfl) rfl
theorem q1118 : (Jvm.Cond.soleField "ElephantEdge$If" "yes") ∈ lw_all := lw_g (lw_at lw_m5 48 rfl) rfl
theorem q1119 : (Jvm.Cond.laysFinal "ElephantEdge$If" "ElephantEdge$If" "no" "LElephantEdge$Formula;") ∈ lw_all := lw_g (lw_at lw_m5 49 rfl) rfl
theorem q1120 : (Jvm.Cond.soleField "ElephantEdge$If" "no") ∈ lw_all := lw_g (lw_at lw_m5 50 rfl) rfl
theorem q1121 : (Jvm.Cond.superclass "ElephantEdge$If" "java/lang/Object") ∈ lw_all := lw_g (lw_at lw_m5 51 rfl) rfl
theorem q1433 : (Jvm.Cond.castable "ElephantEdge$If" "ElephantEdge$Formula") ∈ lw_tbl := lw_at lw_m6 123 rfl
theorem q1434 : (Jvm.Cond.selects "ElephantEdge$If" ({ cls := "ElephantEdge$Formula", name := "value", desc := "([I)I" } : Jvm.MethodName) ({ cls := "ElephantEdge$If", name := "value", desc := "([I)I" } : Jvm.MethodName)) ∈ lw_all := lw_g (lw_at lw_m6 124 rfl) rfl
theorem q1435 : (Jvm.Cond.unhidden "ElephantEdge$If" "value" "([I)I") ∈ lw_tbl := lw_at lw_m6 125 rfl
theorem q1436 : (Jvm.Cond.instanceMethod ({ cls := "ElephantEdge$If", name := "value", desc := "([I)I" } : Jvm.MethodName)) ∈ lw_all := lw_g (lw_at lw_m6 126 rfl) rfl
theorem q1437 : (Jvm.Cond.publicMethod ({ cls := "ElephantEdge$If", name := "value", desc := "([I)I" } : Jvm.MethodName)) ∈ lw_tbl := lw_at lw_m6 127 rfl
theorem q1438 : (Jvm.Cond.code ({ cls := "ElephantEdge$If", name := "value", desc := "([I)I" } : Jvm.MethodName) prog_6_method_2_code (2 : Nat) (Option.some Jvm.ClassFile.FieldType.int)) ∈ lw_all := lw_g (lw_at lw_m6 128 rfl) rfl
theorem q1439 : (Jvm.Cond.interfaceEntry "ElephantEdge$If" (19 : Nat)) ∈ lw_tbl := lw_at lw_m6 129 rfl
theorem q1440 : (Jvm.Cond.methodLink "ElephantEdge$If" (19 : Nat) ({ cls := "ElephantEdge$Formula", name := "value", desc := "([I)I" } : Jvm.MethodName)) ∈ lw_all := lw_g (lw_at lw_m6 130 rfl) rfl
theorem q2528 : (Jvm.Cond.castable "ElephantEdge$If" "java/lang/Object") ∈ lw_tbl := lw_at lw_m11 18 rfl
theorem in_X13 : ∀ w ∈ wsX130, w ∈ lw_all := lw_in wsX130 [1115, 1117, 1119] (by decide +kernel) (by decide +kernel)
/-! ElephantEdge$Least -/
def RX14 : String := "ElephantEdge$Least"
def TX14 : u_T := fun k => match k with
  | 0 => ("ElephantEdge$Two", "one", "LElephantEdge$Formula;", true)
  | _ => ("ElephantEdge$Two", "other", "LElephantEdge$Formula;", true)
def tyX14 : Nat → FieldType := fun k => match k with
  | 0 => .object "ElephantEdge$Formula"
  | _ => .object "ElephantEdge$Formula"
abbrev wsX140 : List Cond := u_ws RX14 TX14 2
theorem nmX14 : ∀ a, a < 2 → ∀ b, b < 2 → a ≠ b → (TX14 a).2.1 ≠ (TX14 b).2.1 := by decide +kernel
theorem tyX14_ok : ∀ k, k < 2 → parseFieldDescriptor (TX14 k).2.2.1 = some (tyX14 k) := by decide +kernel
abbrev cX14_init : ByteArray := prog_8_method_1_code
def yX14_init : MethodName := ⟨RX14, "<init>", "(LElephantEdge$Formula;LElephantEdge$Formula;)V"⟩
abbrev cX14_of : ByteArray := prog_8_method_2_code
def yX14_of : MethodName := ⟨RX14, "of", "(II)I"⟩
theorem q140 : (Jvm.Cond.initialized "ElephantEdge$Least") ∈ lw_all := lw_g (lw_at lw_m1 30 rfl) rfl
theorem q665 : (Jvm.Cond.selects "ElephantEdge$Least" ({ cls := "java/lang/Object", name := "getClass", desc := "()Ljava/lang/Class;" } : Jvm.MethodName) ({ cls := "java/lang/Object", name := "getClass", desc := "()Ljava/lang/Class;" } : Jvm.MethodName)) ∈ lw_all := lw_g (lw_at lw_m3 75 rfl) rfl
theorem q1123 : (Jvm.Cond.instantiable "ElephantEdge$Least" (2 : Nat)) ∈ lw_all := lw_g (lw_at lw_m5 53 rfl) rfl
theorem q1125 : (Jvm.Cond.instanceMethod ({ cls := "ElephantEdge$Least", name := "<init>", desc := "(LElephantEdge$Formula;LElephantEdge$Formula;)V" } : Jvm.MethodName)) ∈ lw_all := lw_g (lw_at lw_m5 55 rfl) rfl
theorem q1126 : (Jvm.Cond.code ({ cls := "ElephantEdge$Least", name := "<init>", desc := "(LElephantEdge$Formula;LElephantEdge$Formula;)V" } : Jvm.MethodName) prog_8_method_1_code (3 : Nat) (Option.none : Option Jvm.ClassFile.FieldType)) ∈ lw_all := lw_g (lw_at lw_m5 56 rfl) rfl
theorem q1127 : (Jvm.Cond.methodLink "ElephantEdge$Least" (1 : Nat) ({ cls := "ElephantEdge$Two", name := "<init>", desc := "(LElephantEdge$Formula;LElephantEdge$Formula;)V" } : Jvm.MethodName)) ∈ lw_all := lw_g (lw_at lw_m5 57 rfl) rfl
theorem q1128 : (Jvm.Cond.laysFinal "ElephantEdge$Least" "ElephantEdge$Two" "one" "LElephantEdge$Formula;") ∈ lw_all := lw_g (lw_at lw_m5 58 rfl) rfl
theorem q1129 : (Jvm.Cond.laysFinal "ElephantEdge$Least" "ElephantEdge$Two" "other" "LElephantEdge$Formula;") ∈ lw_all := lw_g (lw_at lw_m5 59 rfl) rfl
theorem q1130 : (Jvm.Cond.superclass "ElephantEdge$Least" "ElephantEdge$Two") ∈ lw_all := lw_g (lw_at lw_m5 60 rfl) rfl
theorem q1441 : (Jvm.Cond.castable "ElephantEdge$Least" "ElephantEdge$Formula") ∈ lw_tbl := lw_at lw_m6 131 rfl
theorem q1442 : (Jvm.Cond.selects "ElephantEdge$Least" ({ cls := "ElephantEdge$Formula", name := "value", desc := "([I)I" } : Jvm.MethodName) ({ cls := "ElephantEdge$Two", name := "value", desc := "([I)I" } : Jvm.MethodName)) ∈ lw_all := lw_g (lw_at lw_m6 132 rfl) rfl
theorem q1443 : (Jvm.Cond.unhidden "ElephantEdge$Least" "value" "([I)I") ∈ lw_tbl := lw_at lw_m6 133 rfl
theorem q1468 : (Jvm.Cond.selects "ElephantEdge$Least" ({ cls := "ElephantEdge$Two", name := "of", desc := "(II)I" } : Jvm.MethodName) ({ cls := "ElephantEdge$Least", name := "of", desc := "(II)I" } : Jvm.MethodName)) ∈ lw_all := lw_g (lw_at lw_m6 158 rfl) rfl
theorem q1469 : (Jvm.Cond.instanceMethod ({ cls := "ElephantEdge$Least", name := "of", desc := "(II)I" } : Jvm.MethodName)) ∈ lw_all := lw_g (lw_at lw_m6 159 rfl) rfl
theorem q1470 : (Jvm.Cond.code ({ cls := "ElephantEdge$Least", name := "of", desc := "(II)I" } : Jvm.MethodName) prog_8_method_2_code (3 : Nat) (Option.some Jvm.ClassFile.FieldType.int)) ∈ lw_all := lw_g (lw_at lw_m6 160 rfl) rfl
theorem q1471 : (Jvm.Cond.methodLink "ElephantEdge$Least" (7 : Nat) ({ cls := "java/lang/Math", name := "min", desc := "(II)I" } : Jvm.MethodName)) ∈ lw_all := lw_g (lw_at lw_m6 161 rfl) rfl
theorem q2529 : (Jvm.Cond.castable "ElephantEdge$Least" "java/lang/Object") ∈ lw_tbl := lw_at lw_m11 19 rfl
theorem in_X14 : ∀ w ∈ wsX140, w ∈ lw_all := lw_in wsX140 [1128, 1129] (by decide +kernel) (by decide +kernel)
/-! ElephantEdge$Most -/
def RX15 : String := "ElephantEdge$Most"
def TX15 : u_T := fun k => match k with
  | 0 => ("ElephantEdge$Two", "one", "LElephantEdge$Formula;", true)
  | _ => ("ElephantEdge$Two", "other", "LElephantEdge$Formula;", true)
def tyX15 : Nat → FieldType := fun k => match k with
  | 0 => .object "ElephantEdge$Formula"
  | _ => .object "ElephantEdge$Formula"
abbrev wsX150 : List Cond := u_ws RX15 TX15 2
theorem nmX15 : ∀ a, a < 2 → ∀ b, b < 2 → a ≠ b → (TX15 a).2.1 ≠ (TX15 b).2.1 := by decide +kernel
theorem tyX15_ok : ∀ k, k < 2 → parseFieldDescriptor (TX15 k).2.2.1 = some (tyX15 k) := by decide +kernel
abbrev cX15_init : ByteArray := prog_9_method_1_code
def yX15_init : MethodName := ⟨RX15, "<init>", "(LElephantEdge$Formula;LElephantEdge$Formula;)V"⟩
abbrev cX15_of : ByteArray := prog_9_method_2_code
def yX15_of : MethodName := ⟨RX15, "of", "(II)I"⟩
theorem q141 : (Jvm.Cond.initialized "ElephantEdge$Most") ∈ lw_all := lw_g (lw_at lw_m1 31 rfl) rfl
theorem q666 : (Jvm.Cond.selects "ElephantEdge$Most" ({ cls := "java/lang/Object", name := "getClass", desc := "()Ljava/lang/Class;" } : Jvm.MethodName) ({ cls := "java/lang/Object", name := "getClass", desc := "()Ljava/lang/Class;" } : Jvm.MethodName)) ∈ lw_all := lw_g (lw_at lw_m3 76 rfl) rfl
theorem q1132 : (Jvm.Cond.instantiable "ElephantEdge$Most" (2 : Nat)) ∈ lw_all := lw_g (lw_at lw_m5 62 rfl) rfl
theorem q1134 : (Jvm.Cond.instanceMethod ({ cls := "ElephantEdge$Most", name := "<init>", desc := "(LElephantEdge$Formula;LElephantEdge$Formula;)V" } : Jvm.MethodName)) ∈ lw_all := lw_g (lw_at lw_m5 64 rfl) rfl
theorem q1135 : (Jvm.Cond.code ({ cls := "ElephantEdge$Most", name := "<init>", desc := "(LElephantEdge$Formula;LElephantEdge$Formula;)V" } : Jvm.MethodName) prog_9_method_1_code (3 : Nat) (Option.none : Option Jvm.ClassFile.FieldType)) ∈ lw_all := lw_g (lw_at lw_m5 65 rfl) rfl
theorem q1136 : (Jvm.Cond.methodLink "ElephantEdge$Most" (1 : Nat) ({ cls := "ElephantEdge$Two", name := "<init>", desc := "(LElephantEdge$Formula;LElephantEdge$Formula;)V" } : Jvm.MethodName)) ∈ lw_all := lw_g (lw_at lw_m5 66 rfl) rfl
theorem q1137 : (Jvm.Cond.laysFinal "ElephantEdge$Most" "ElephantEdge$Two" "one" "LElephantEdge$Formula;") ∈ lw_all := lw_g (lw_at lw_m5 67 rfl) rfl
theorem q1138 : (Jvm.Cond.laysFinal "ElephantEdge$Most" "ElephantEdge$Two" "other" "LElephantEdge$Formula;") ∈ lw_all := lw_g (lw_at lw_m5 68 rfl) rfl
theorem q1139 : (Jvm.Cond.superclass "ElephantEdge$Most" "ElephantEdge$Two") ∈ lw_all := lw_g (lw_at lw_m5 69 rfl) rfl
theorem q1444 : (Jvm.Cond.castable "ElephantEdge$Most" "ElephantEdge$Formula") ∈ lw_tbl := lw_at lw_m6 134 rfl
theorem q1445 : (Jvm.Cond.selects "ElephantEdge$Most" ({ cls := "ElephantEdge$Formula", name := "value", desc := "([I)I" } : Jvm.MethodName) ({ cls := "ElephantEdge$Two", name := "value", desc := "([I)I" } : Jvm.MethodName)) ∈ lw_all := lw_g (lw_at lw_m6 135 rfl) rfl
theorem q1446 : (Jvm.Cond.unhidden "ElephantEdge$Most" "value" "([I)I") ∈ lw_tbl := lw_at lw_m6 136 rfl
theorem q1472 : (Jvm.Cond.selects "ElephantEdge$Most" ({ cls := "ElephantEdge$Two", name := "of", desc := "(II)I" } : Jvm.MethodName) ({ cls := "ElephantEdge$Most", name := "of", desc := "(II)I" } : Jvm.MethodName)) ∈ lw_all := lw_g (lw_at lw_m6 162 rfl) rfl
theorem q1473 : (Jvm.Cond.instanceMethod ({ cls := "ElephantEdge$Most", name := "of", desc := "(II)I" } : Jvm.MethodName)) ∈ lw_all := lw_g (lw_at lw_m6 163 rfl) rfl
theorem q1474 : (Jvm.Cond.code ({ cls := "ElephantEdge$Most", name := "of", desc := "(II)I" } : Jvm.MethodName) prog_9_method_2_code (3 : Nat) (Option.some Jvm.ClassFile.FieldType.int)) ∈ lw_all := lw_g (lw_at lw_m6 164 rfl) rfl
theorem q1475 : (Jvm.Cond.methodLink "ElephantEdge$Most" (7 : Nat) ({ cls := "java/lang/Math", name := "max", desc := "(II)I" } : Jvm.MethodName)) ∈ lw_all := lw_g (lw_at lw_m6 165 rfl) rfl
theorem q2530 : (Jvm.Cond.castable "ElephantEdge$Most" "java/lang/Object") ∈ lw_tbl := lw_at lw_m11 20 rfl
theorem in_X15 : ∀ w ∈ wsX150, w ∈ lw_all := lw_in wsX150 [1137, 1138] (by decide +kernel) (by decide +kernel)
/-! ElephantEdge$Herd -/
def RX16 : String := "ElephantEdge$Herd"
def TX16 : u_T := fun k => match k with
  | 0 => ("ElephantEdge$Herd", "home", "I", true)
  | 1 => ("ElephantEdge$Herd", "hunger", "I", true)
  | 2 => ("ElephantEdge$Herd", "speed", "I", true)
  | 3 => ("ElephantEdge$Herd", "hours", "[I", true)
  | 4 => ("ElephantEdge$Herd", "at", "[I", true)
  | _ => ("ElephantEdge$Herd", "fixes", "I", false)
def tyX16 : Nat → FieldType := fun k => match k with
  | 0 => .int
  | 1 => .int
  | 2 => .int
  | 3 => .array .int
  | 4 => .array .int
  | _ => .int
abbrev wsX160 : List Cond := u_ws RX16 TX16 6
theorem nmX16 : ∀ a, a < 6 → ∀ b, b < 6 → a ≠ b → (TX16 a).2.1 ≠ (TX16 b).2.1 := by decide +kernel
theorem tyX16_ok : ∀ k, k < 6 → parseFieldDescriptor (TX16 k).2.2.1 = some (tyX16 k) := by decide +kernel
abbrev cX16_init : ByteArray := prog_5_method_1_code
def yX16_init : MethodName := ⟨RX16, "<init>", "(III)V"⟩
theorem q142 : (Jvm.Cond.initialized "ElephantEdge$Herd") ∈ lw_all := lw_g (lw_at lw_m1 32 rfl) rfl
theorem q662 : (Jvm.Cond.selects "ElephantEdge$Herd" ({ cls := "java/lang/Object", name := "getClass", desc := "()Ljava/lang/Class;" } : Jvm.MethodName) ({ cls := "java/lang/Object", name := "getClass", desc := "()Ljava/lang/Class;" } : Jvm.MethodName)) ∈ lw_all := lw_g (lw_at lw_m3 72 rfl) rfl
theorem q1154 : (Jvm.Cond.instantiable "ElephantEdge$Herd" (6 : Nat)) ∈ lw_all := lw_g (lw_at lw_m5 84 rfl) rfl
theorem q1156 : (Jvm.Cond.instanceMethod ({ cls := "ElephantEdge$Herd", name := "<init>", desc := "(III)V" } : Jvm.MethodName)) ∈ lw_all := lw_g (lw_at lw_m5 86 rfl) rfl
theorem q1157 : (Jvm.Cond.code ({ cls := "ElephantEdge$Herd", name := "<init>", desc := "(III)V" } : Jvm.MethodName) prog_5_method_1_code (4 : Nat) (Option.none : Option Jvm.ClassFile.FieldType)) ∈ lw_all := lw_g (lw_at lw_m5 87 rfl) rfl
theorem q1158 : (Jvm.Cond.methodLink "ElephantEdge$Herd" (3 : Nat) ({ cls := "java/lang/Object", name := "<init>", desc := "()V" } : Jvm.MethodName)) ∈ lw_all := lw_g (lw_at lw_m5 88 rfl) rfl
theorem q1159 : (Jvm.Cond.fieldLink "ElephantEdge$Herd" (18 : Nat) "ElephantEdge$Herd" "home" "I") ∈ lw_all := lw_g (lw_at lw_m5 89 rfl) rfl
theorem q1161 : (Jvm.Cond.fieldLink "ElephantEdge$Herd" (22 : Nat) "ElephantEdge$Herd" "hunger" "I") ∈ lw_all := lw_g (lw_at lw_m5 91 rfl) rfl
theorem q1163 : (Jvm.Cond.fieldLink "ElephantEdge$Herd" (25 : Nat) "ElephantEdge$Herd" "speed" "I") ∈ lw_all := lw_g (lw_at lw_m5 93 rfl) rfl
theorem q1165 : (Jvm.Cond.fieldLink "ElephantEdge$Herd" (9 : Nat) "ElephantEdge$Herd" "hours" "[I") ∈ lw_all := lw_g (lw_at lw_m5 95 rfl) rfl
theorem q1167 : (Jvm.Cond.fieldLink "ElephantEdge$Herd" (15 : Nat) "ElephantEdge$Herd" "at" "[I") ∈ lw_all := lw_g (lw_at lw_m5 97 rfl) rfl
theorem q1170 : (Jvm.Cond.laysFinal "ElephantEdge$Herd" "ElephantEdge$Herd" "home" "I") ∈ lw_all := lw_g (lw_at lw_m5 100 rfl) rfl
theorem q1171 : (Jvm.Cond.soleField "ElephantEdge$Herd" "home") ∈ lw_all := lw_g (lw_at lw_m5 101 rfl) rfl
theorem q1172 : (Jvm.Cond.laysFinal "ElephantEdge$Herd" "ElephantEdge$Herd" "hunger" "I") ∈ lw_all := lw_g (lw_at lw_m5 102 rfl) rfl
theorem q1173 : (Jvm.Cond.soleField "ElephantEdge$Herd" "hunger") ∈ lw_all := lw_g (lw_at lw_m5 103 rfl) rfl
theorem q1174 : (Jvm.Cond.laysFinal "ElephantEdge$Herd" "ElephantEdge$Herd" "speed" "I") ∈ lw_all := lw_g (lw_at lw_m5 104 rfl) rfl
theorem q1175 : (Jvm.Cond.soleField "ElephantEdge$Herd" "speed") ∈ lw_all := lw_g (lw_at lw_m5 105 rfl) rfl
theorem q1176 : (Jvm.Cond.laysFinal "ElephantEdge$Herd" "ElephantEdge$Herd" "hours" "[I") ∈ lw_all := lw_g (lw_at lw_m5 106 rfl) rfl
theorem q1177 : (Jvm.Cond.soleField "ElephantEdge$Herd" "hours") ∈ lw_all := lw_g (lw_at lw_m5 107 rfl) rfl
theorem q1178 : (Jvm.Cond.laysFinal "ElephantEdge$Herd" "ElephantEdge$Herd" "at" "[I") ∈ lw_all := lw_g (lw_at lw_m5 108 rfl) rfl
theorem q1179 : (Jvm.Cond.soleField "ElephantEdge$Herd" "at") ∈ lw_all := lw_g (lw_at lw_m5 109 rfl) rfl
theorem q1180 : (Jvm.Cond.lays "ElephantEdge$Herd" "ElephantEdge$Herd" "fixes" "I") ∈ lw_all := lw_g (lw_at lw_m5 110 rfl) rfl
theorem q1181 : (Jvm.Cond.soleField "ElephantEdge$Herd" "fixes") ∈ lw_all := lw_g (lw_at lw_m5 111 rfl) rfl
theorem q1182 : (Jvm.Cond.superclass "ElephantEdge$Herd" "java/lang/Object") ∈ lw_all := lw_g (lw_at lw_m5 112 rfl) rfl
theorem q2531 : (Jvm.Cond.castable "ElephantEdge$Herd" "java/lang/Object") ∈ lw_tbl := lw_at lw_m11 21 rfl
theorem in_X16 : ∀ w ∈ wsX160, w ∈ lw_all := lw_in wsX160 [1170, 1172, 1174, 1176, 1178, 1180] (by decide +kernel) (by decide +kernel)
/-! jdk/internal/util/ArraysSupport -/
def RJ16 : String := "jdk/internal/util/ArraysSupport"
abbrev cJ16_newLength : ByteArray := prog_54_method_27_code
def yJ16_newLength : MethodName := ⟨RJ16, "newLength", "(III)I"⟩
abbrev cJ16_hugeLength : ByteArray := prog_54_method_28_code
def yJ16_hugeLength : MethodName := ⟨RJ16, "hugeLength", "(II)I"⟩
theorem q143 : (Jvm.Cond.initialized "jdk/internal/util/ArraysSupport") ∈ lw_all := lw_g (lw_at lw_m1 33 rfl) rfl
theorem q646 : (Jvm.Cond.static ({ cls := "jdk/internal/util/ArraysSupport", name := "newLength", desc := "(III)I" } : Jvm.MethodName)) ∈ lw_all := lw_g (lw_at lw_m3 56 rfl) rfl
theorem q647 : (Jvm.Cond.code ({ cls := "jdk/internal/util/ArraysSupport", name := "newLength", desc := "(III)I" } : Jvm.MethodName) prog_54_method_27_code (4 : Nat) (Option.some Jvm.ClassFile.FieldType.int)) ∈ lw_all := lw_g (lw_at lw_m3 57 rfl) rfl
theorem q648 : (Jvm.Cond.methodLink "jdk/internal/util/ArraysSupport" (194 : Nat) ({ cls := "java/lang/Math", name := "max", desc := "(II)I" } : Jvm.MethodName)) ∈ lw_all := lw_g (lw_at lw_m3 58 rfl) rfl
theorem q649 : (Jvm.Cond.constant "jdk/internal/util/ArraysSupport" (200 : Nat) (2147483639 : Int32)) ∈ lw_all := lw_g (lw_at lw_m3 59 rfl) rfl
theorem q650 : (Jvm.Cond.methodLink "jdk/internal/util/ArraysSupport" (201 : Nat) ({ cls := "jdk/internal/util/ArraysSupport", name := "hugeLength", desc := "(II)I" } : Jvm.MethodName)) ∈ lw_all := lw_g (lw_at lw_m3 60 rfl) rfl
theorem q651 : (Jvm.Cond.static ({ cls := "jdk/internal/util/ArraysSupport", name := "hugeLength", desc := "(II)I" } : Jvm.MethodName)) ∈ lw_all := lw_g (lw_at lw_m3 61 rfl) rfl
theorem q652 : (Jvm.Cond.code ({ cls := "jdk/internal/util/ArraysSupport", name := "hugeLength", desc := "(II)I" } : Jvm.MethodName) prog_54_method_28_code (3 : Nat) (Option.some Jvm.ClassFile.FieldType.int)) ∈ lw_all := lw_g (lw_at lw_m3 62 rfl) rfl
/-! java/util/Arrays -/
def RJ17 : String := "java/util/Arrays"
abbrev cJ17_copyOf : ByteArray := prog_47_method_119_code
def yJ17_copyOf : MethodName := ⟨RJ17, "copyOf", "([Ljava/lang/Object;I)[Ljava/lang/Object;"⟩
abbrev cJ17_copyOf_2 : ByteArray := prog_47_method_120_code
def yJ17_copyOf_2 : MethodName := ⟨RJ17, "copyOf", "([Ljava/lang/Object;ILjava/lang/Class;)[Ljava/lang/Object;"⟩
theorem q144 : (Jvm.Cond.initialized "java/util/Arrays") ∈ lw_all := lw_g (lw_at lw_m1 34 rfl) rfl
theorem q654 : (Jvm.Cond.static ({ cls := "java/util/Arrays", name := "copyOf", desc := "([Ljava/lang/Object;I)[Ljava/lang/Object;" } : Jvm.MethodName)) ∈ lw_all := lw_g (lw_at lw_m3 64 rfl) rfl
theorem q655 : (Jvm.Cond.code ({ cls := "java/util/Arrays", name := "copyOf", desc := "([Ljava/lang/Object;I)[Ljava/lang/Object;" } : Jvm.MethodName) prog_47_method_119_code (2 : Nat) (Option.some (Jvm.ClassFile.FieldType.array (Jvm.ClassFile.FieldType.object "java/lang/Object")))) ∈ lw_all := lw_g (lw_at lw_m3 65 rfl) rfl
theorem q656 : (Jvm.Cond.methodLink "java/util/Arrays" (86 : Nat) ({ cls := "java/lang/Object", name := "getClass", desc := "()Ljava/lang/Class;" } : Jvm.MethodName)) ∈ lw_all := lw_g (lw_at lw_m3 66 rfl) rfl
theorem q686 : (Jvm.Cond.methodLink "java/util/Arrays" (300 : Nat) ({ cls := "java/util/Arrays", name := "copyOf", desc := "([Ljava/lang/Object;ILjava/lang/Class;)[Ljava/lang/Object;" } : Jvm.MethodName)) ∈ lw_all := lw_g (lw_at lw_m3 96 rfl) rfl
theorem q687 : (Jvm.Cond.static ({ cls := "java/util/Arrays", name := "copyOf", desc := "([Ljava/lang/Object;ILjava/lang/Class;)[Ljava/lang/Object;" } : Jvm.MethodName)) ∈ lw_all := lw_g (lw_at lw_m3 97 rfl) rfl
theorem q688 : (Jvm.Cond.code ({ cls := "java/util/Arrays", name := "copyOf", desc := "([Ljava/lang/Object;ILjava/lang/Class;)[Ljava/lang/Object;" } : Jvm.MethodName) prog_47_method_120_code (4 : Nat) (Option.some (Jvm.ClassFile.FieldType.array (Jvm.ClassFile.FieldType.object "java/lang/Object")))) ∈ lw_all := lw_g (lw_at lw_m3 98 rfl) rfl
theorem q689 : (Jvm.Cond.classLink "java/util/Arrays" (110 : Nat) "[Ljava/lang/Object;") ∈ lw_all := lw_g (lw_at lw_m3 99 rfl) rfl
theorem q691 : (Jvm.Cond.classLink "java/util/Arrays" (2 : Nat) "java/lang/Object") ∈ lw_all := lw_g (lw_at lw_m3 101 rfl) rfl
theorem q692 : (Jvm.Cond.methodLink "java/util/Arrays" (304 : Nat) ({ cls := "java/lang/Math", name := "min", desc := "(II)I" } : Jvm.MethodName)) ∈ lw_all := lw_g (lw_at lw_m3 102 rfl) rfl
theorem q693 : (Jvm.Cond.methodLink "java/util/Arrays" (150 : Nat) ({ cls := "java/lang/System", name := "arraycopy", desc := "(Ljava/lang/Object;ILjava/lang/Object;II)V" } : Jvm.MethodName)) ∈ lw_all := lw_g (lw_at lw_m3 103 rfl) rfl
/-! java/util/NoSuchElementException -/
def RJ18 : String := "java/util/NoSuchElementException"
def TJ18 : u_T := fun k => match k with
  | 0 => ("java/lang/Throwable", "cause", "Ljava/lang/Throwable;", false)
  | 1 => ("java/lang/Throwable", "stackTrace", "[Ljava/lang/StackTraceElement;", false)
  | 2 => ("java/lang/Throwable", "suppressedExceptions", "Ljava/util/List;", false)
  | 3 => ("java/lang/Throwable", "detailMessage", "Ljava/lang/String;", false)
  | 4 => ("java/lang/Throwable", "backtrace", "Ljava/lang/Object;", false)
  | _ => ("java/lang/Throwable", "depth", "I", false)
def tyJ18 : Nat → FieldType := fun k => match k with
  | 0 => .object "java/lang/Throwable"
  | 1 => .array (.object "java/lang/StackTraceElement")
  | 2 => .object "java/util/List"
  | 3 => .object "java/lang/String"
  | 4 => .object "java/lang/Object"
  | _ => .int
abbrev wsJ180 : List Cond := u_ws RJ18 TJ18 6
theorem nmJ18 : ∀ a, a < 6 → ∀ b, b < 6 → a ≠ b → (TJ18 a).2.1 ≠ (TJ18 b).2.1 := by decide +kernel
theorem tyJ18_ok : ∀ k, k < 6 → parseFieldDescriptor (TJ18 k).2.2.1 = some (tyJ18 k) := by decide +kernel
abbrev cJ18_init : ByteArray := prog_50_method_1_code
def yJ18_init : MethodName := ⟨RJ18, "<init>", "()V"⟩
theorem q146 : (Jvm.Cond.initialized "java/util/NoSuchElementException") ∈ lw_all := lw_g (lw_at lw_m1 36 rfl) rfl
theorem q684 : (Jvm.Cond.selects "java/util/NoSuchElementException" ({ cls := "java/lang/Object", name := "getClass", desc := "()Ljava/lang/Class;" } : Jvm.MethodName) ({ cls := "java/lang/Object", name := "getClass", desc := "()Ljava/lang/Class;" } : Jvm.MethodName)) ∈ lw_all := lw_g (lw_at lw_m3 94 rfl) rfl
theorem q766 : (Jvm.Cond.selects "java/util/NoSuchElementException" ({ cls := "java/lang/Throwable", name := "fillInStackTrace", desc := "()Ljava/lang/Throwable;" } : Jvm.MethodName) ({ cls := "java/lang/Throwable", name := "fillInStackTrace", desc := "()Ljava/lang/Throwable;" } : Jvm.MethodName)) ∈ lw_all := lw_g (lw_at lw_m3 176 rfl) rfl
theorem q1196 : (Jvm.Cond.instantiable "java/util/NoSuchElementException" (6 : Nat)) ∈ lw_all := lw_g (lw_at lw_m5 126 rfl) rfl
theorem q1197 : (Jvm.Cond.castable "java/util/NoSuchElementException" "java/util/NoSuchElementException") ∈ lw_tbl := lw_at lw_m5 127 rfl
theorem q1198 : (Jvm.Cond.selects "java/util/NoSuchElementException" ({ cls := "java/lang/Throwable", name := "fillInStackTrace", desc := "(I)Ljava/lang/Throwable;" } : Jvm.MethodName) ({ cls := "java/lang/Throwable", name := "fillInStackTrace", desc := "(I)Ljava/lang/Throwable;" } : Jvm.MethodName)) ∈ lw_all := lw_g (lw_at lw_m5 128 rfl) rfl
theorem q1199 : (Jvm.Cond.lays "java/util/NoSuchElementException" "java/lang/Throwable" "cause" "Ljava/lang/Throwable;") ∈ lw_all := lw_g (lw_at lw_m5 129 rfl) rfl
theorem q1200 : (Jvm.Cond.lays "java/util/NoSuchElementException" "java/lang/Throwable" "stackTrace" "[Ljava/lang/StackTraceElement;") ∈ lw_all := lw_g (lw_at lw_m5 130 rfl) rfl
theorem q1201 : (Jvm.Cond.lays "java/util/NoSuchElementException" "java/lang/Throwable" "suppressedExceptions" "Ljava/util/List;") ∈ lw_all := lw_g (lw_at lw_m5 131 rfl) rfl
theorem q1202 : (Jvm.Cond.lays "java/util/NoSuchElementException" "java/lang/Throwable" "detailMessage" "Ljava/lang/String;") ∈ lw_all := lw_g (lw_at lw_m5 132 rfl) rfl
theorem q1203 : (Jvm.Cond.lays "java/util/NoSuchElementException" "java/lang/Throwable" "backtrace" "Ljava/lang/Object;") ∈ lw_all := lw_g (lw_at lw_m5 133 rfl) rfl
theorem q1205 : (Jvm.Cond.instanceMethod ({ cls := "java/util/NoSuchElementException", name := "<init>", desc := "()V" } : Jvm.MethodName)) ∈ lw_all := lw_g (lw_at lw_m5 135 rfl) rfl
theorem q1206 : (Jvm.Cond.code ({ cls := "java/util/NoSuchElementException", name := "<init>", desc := "()V" } : Jvm.MethodName) prog_50_method_1_code (1 : Nat) (Option.none : Option Jvm.ClassFile.FieldType)) ∈ lw_all := lw_g (lw_at lw_m5 136 rfl) rfl
theorem q1207 : (Jvm.Cond.methodLink "java/util/NoSuchElementException" (1 : Nat) ({ cls := "java/lang/RuntimeException", name := "<init>", desc := "()V" } : Jvm.MethodName)) ∈ lw_all := lw_g (lw_at lw_m5 137 rfl) rfl
theorem q1208 : (Jvm.Cond.lays "java/util/NoSuchElementException" "java/lang/Throwable" "depth" "I") ∈ lw_all := lw_g (lw_at lw_m5 138 rfl) rfl
theorem q1209 : (Jvm.Cond.superclass "java/util/NoSuchElementException" "java/lang/RuntimeException") ∈ lw_all := lw_g (lw_at lw_m5 139 rfl) rfl
theorem q2532 : (Jvm.Cond.castable "java/util/NoSuchElementException" "java/lang/Object") ∈ lw_tbl := lw_at lw_m11 22 rfl
theorem in_J18 : ∀ w ∈ wsJ180, w ∈ lw_all := lw_in wsJ180 [1199, 1200, 1201, 1202, 1203, 1208] (by decide +kernel) (by decide +kernel)
/-! ElephantEdge$Claim -/
def RX17 : String := "ElephantEdge$Claim"
def TX17 : u_T := fun k => match k with
  | 0 => ("ElephantEdge$Claim", "family", "I", true)
  | 1 => ("ElephantEdge$Claim", "night", "I", true)
  | 2 => ("ElephantEdge$Claim", "rows", "Ljava/util/ArrayList;", true)
  | _ => ("ElephantEdge$Claim", "paid", "I", false)
def tyX17 : Nat → FieldType := fun k => match k with
  | 0 => .int
  | 1 => .int
  | 2 => .object "java/util/ArrayList"
  | _ => .int
abbrev wsX170 : List Cond := u_ws RX17 TX17 4
theorem nmX17 : ∀ a, a < 4 → ∀ b, b < 4 → a ≠ b → (TX17 a).2.1 ≠ (TX17 b).2.1 := by decide +kernel
theorem tyX17_ok : ∀ k, k < 4 → parseFieldDescriptor (TX17 k).2.2.1 = some (tyX17 k) := by decide +kernel
abbrev cX17_init : ByteArray := prog_2_method_1_code
def yX17_init : MethodName := ⟨RX17, "<init>", "(III)V"⟩
abbrev cX17_known : ByteArray := prog_2_method_3_code
def yX17_known : MethodName := ⟨RX17, "known", "(I)I"⟩
abbrev cX17_latest : ByteArray := prog_2_method_2_code
def yX17_latest : MethodName := ⟨RX17, "latest", "()I"⟩
theorem q147 : (Jvm.Cond.initialized "ElephantEdge$Claim") ∈ lw_all := lw_g (lw_at lw_m1 37 rfl) rfl
theorem q607 : (Jvm.Cond.instantiable "ElephantEdge$Claim" (4 : Nat)) ∈ lw_all := lw_g (lw_at lw_m3 17 rfl) rfl
theorem q609 : (Jvm.Cond.instanceMethod ({ cls := "ElephantEdge$Claim", name := "<init>", desc := "(III)V" } : Jvm.MethodName)) ∈ lw_all := lw_g (lw_at lw_m3 19 rfl) rfl
theorem q610 : (Jvm.Cond.code ({ cls := "ElephantEdge$Claim", name := "<init>", desc := "(III)V" } : Jvm.MethodName) prog_2_method_1_code (4 : Nat) (Option.none : Option Jvm.ClassFile.FieldType)) ∈ lw_all := lw_g (lw_at lw_m3 20 rfl) rfl
theorem q611 : (Jvm.Cond.methodLink "ElephantEdge$Claim" (3 : Nat) ({ cls := "java/lang/Object", name := "<init>", desc := "()V" } : Jvm.MethodName)) ∈ lw_all := lw_g (lw_at lw_m3 21 rfl) rfl
theorem q612 : (Jvm.Cond.classLink "ElephantEdge$Claim" (9 : Nat) "java/util/ArrayList") ∈ lw_all := lw_g (lw_at lw_m3 22 rfl) rfl
theorem q613 : (Jvm.Cond.methodLink "ElephantEdge$Claim" (11 : Nat) ({ cls := "java/util/ArrayList", name := "<init>", desc := "()V" } : Jvm.MethodName)) ∈ lw_all := lw_g (lw_at lw_m3 23 rfl) rfl
theorem q614 : (Jvm.Cond.classLink "ElephantEdge$Claim" (28 : Nat) "ElephantEdge$Row") ∈ lw_all := lw_g (lw_at lw_m3 24 rfl) rfl
theorem q616 : (Jvm.Cond.methodLink "ElephantEdge$Claim" (30 : Nat) ({ cls := "ElephantEdge$Row", name := "<init>", desc := "(II)V" } : Jvm.MethodName)) ∈ lw_all := lw_g (lw_at lw_m3 26 rfl) rfl
theorem q621 : (Jvm.Cond.fieldLinkNest "ElephantEdge$Claim" (48 : Nat) "ElephantEdge$Row" "told" "I" "ElephantEdge") ∈ lw_tbl := lw_at lw_m3 31 rfl
theorem q623 : (Jvm.Cond.fieldLinkNest "ElephantEdge$Claim" (45 : Nat) "ElephantEdge$Row" "lost" "I" "ElephantEdge") ∈ lw_tbl := lw_at lw_m3 33 rfl
theorem q629 : (Jvm.Cond.methodLink "ElephantEdge$Claim" (33 : Nat) ({ cls := "java/util/ArrayList", name := "add", desc := "(Ljava/lang/Object;)Z" } : Jvm.MethodName)) ∈ lw_all := lw_g (lw_at lw_m3 39 rfl) rfl
theorem q660 : (Jvm.Cond.selects "ElephantEdge$Claim" ({ cls := "java/lang/Object", name := "getClass", desc := "()Ljava/lang/Class;" } : Jvm.MethodName) ({ cls := "java/lang/Object", name := "getClass", desc := "()Ljava/lang/Class;" } : Jvm.MethodName)) ∈ lw_all := lw_g (lw_at lw_m3 70 rfl) rfl
theorem q696 : (Jvm.Cond.fieldLink "ElephantEdge$Claim" (22 : Nat) "ElephantEdge$Claim" "family" "I") ∈ lw_all := lw_g (lw_at lw_m3 106 rfl) rfl
theorem q698 : (Jvm.Cond.fieldLink "ElephantEdge$Claim" (25 : Nat) "ElephantEdge$Claim" "night" "I") ∈ lw_all := lw_g (lw_at lw_m3 108 rfl) rfl
theorem q700 : (Jvm.Cond.fieldLink "ElephantEdge$Claim" (12 : Nat) "ElephantEdge$Claim" "rows" "Ljava/util/ArrayList;") ∈ lw_all := lw_g (lw_at lw_m3 110 rfl) rfl
theorem q702 : (Jvm.Cond.fieldLink "ElephantEdge$Claim" (18 : Nat) "ElephantEdge$Claim" "paid" "I") ∈ lw_all := lw_g (lw_at lw_m3 112 rfl) rfl
theorem q704 : (Jvm.Cond.laysFinal "ElephantEdge$Claim" "ElephantEdge$Claim" "family" "I") ∈ lw_all := lw_g (lw_at lw_m3 114 rfl) rfl
theorem q705 : (Jvm.Cond.soleField "ElephantEdge$Claim" "family") ∈ lw_all := lw_g (lw_at lw_m3 115 rfl) rfl
theorem q706 : (Jvm.Cond.laysFinal "ElephantEdge$Claim" "ElephantEdge$Claim" "night" "I") ∈ lw_all := lw_g (lw_at lw_m3 116 rfl) rfl
theorem q707 : (Jvm.Cond.soleField "ElephantEdge$Claim" "night") ∈ lw_all := lw_g (lw_at lw_m3 117 rfl) rfl
theorem q708 : (Jvm.Cond.laysFinal "ElephantEdge$Claim" "ElephantEdge$Claim" "rows" "Ljava/util/ArrayList;") ∈ lw_all := lw_g (lw_at lw_m3 118 rfl) rfl
theorem q709 : (Jvm.Cond.soleField "ElephantEdge$Claim" "rows") ∈ lw_all := lw_g (lw_at lw_m3 119 rfl) rfl
theorem q710 : (Jvm.Cond.lays "ElephantEdge$Claim" "ElephantEdge$Claim" "paid" "I") ∈ lw_all := lw_g (lw_at lw_m3 120 rfl) rfl
theorem q711 : (Jvm.Cond.soleField "ElephantEdge$Claim" "paid") ∈ lw_all := lw_g (lw_at lw_m3 121 rfl) rfl
theorem q712 : (Jvm.Cond.superclass "ElephantEdge$Claim" "java/lang/Object") ∈ lw_all := lw_g (lw_at lw_m3 122 rfl) rfl
theorem q1397 : (Jvm.Cond.instanceMethod ({ cls := "ElephantEdge$Claim", name := "known", desc := "(I)I" } : Jvm.MethodName)) ∈ lw_all := lw_g (lw_at lw_m6 87 rfl) rfl
theorem q1398 : (Jvm.Cond.selects "ElephantEdge$Claim" ({ cls := "ElephantEdge$Claim", name := "known", desc := "(I)I" } : Jvm.MethodName) ({ cls := "ElephantEdge$Claim", name := "known", desc := "(I)I" } : Jvm.MethodName)) ∈ lw_all := lw_g (lw_at lw_m6 88 rfl) rfl
theorem q1399 : (Jvm.Cond.code ({ cls := "ElephantEdge$Claim", name := "known", desc := "(I)I" } : Jvm.MethodName) prog_2_method_3_code (4 : Nat) (Option.some Jvm.ClassFile.FieldType.int)) ∈ lw_all := lw_g (lw_at lw_m6 89 rfl) rfl
theorem q1400 : (Jvm.Cond.methodLink "ElephantEdge$Claim" (37 : Nat) ({ cls := "java/util/ArrayList", name := "size", desc := "()I" } : Jvm.MethodName)) ∈ lw_all := lw_g (lw_at lw_m6 90 rfl) rfl
theorem q1401 : (Jvm.Cond.methodLink "ElephantEdge$Claim" (41 : Nat) ({ cls := "java/util/ArrayList", name := "get", desc := "(I)Ljava/lang/Object;" } : Jvm.MethodName)) ∈ lw_all := lw_g (lw_at lw_m6 91 rfl) rfl
theorem q1418 : (Jvm.Cond.instanceMethod ({ cls := "ElephantEdge$Claim", name := "latest", desc := "()I" } : Jvm.MethodName)) ∈ lw_all := lw_g (lw_at lw_m6 108 rfl) rfl
theorem q1419 : (Jvm.Cond.selects "ElephantEdge$Claim" ({ cls := "ElephantEdge$Claim", name := "latest", desc := "()I" } : Jvm.MethodName) ({ cls := "ElephantEdge$Claim", name := "latest", desc := "()I" } : Jvm.MethodName)) ∈ lw_all := lw_g (lw_at lw_m6 109 rfl) rfl
theorem q1420 : (Jvm.Cond.code ({ cls := "ElephantEdge$Claim", name := "latest", desc := "()I" } : Jvm.MethodName) prog_2_method_2_code (1 : Nat) (Option.some Jvm.ClassFile.FieldType.int)) ∈ lw_all := lw_g (lw_at lw_m6 110 rfl) rfl
theorem q2533 : (Jvm.Cond.castable "ElephantEdge$Claim" "java/lang/Object") ∈ lw_tbl := lw_at lw_m11 23 rfl
theorem in_X17 : ∀ w ∈ wsX170, w ∈ lw_all := lw_in wsX170 [704, 706, 708, 710] (by decide +kernel) (by decide +kernel)
/-! ElephantEdge$Row -/
def RX18 : String := "ElephantEdge$Row"
def TX18 : u_T := fun k => match k with
  | 0 => ("ElephantEdge$Row", "told", "I", true)
  | _ => ("ElephantEdge$Row", "lost", "I", true)
def tyX18 : Nat → FieldType := fun k => match k with
  | 0 => .int
  | _ => .int
abbrev wsX180 : List Cond := u_ws RX18 TX18 2
theorem nmX18 : ∀ a, a < 2 → ∀ b, b < 2 → a ≠ b → (TX18 a).2.1 ≠ (TX18 b).2.1 := by decide +kernel
theorem tyX18_ok : ∀ k, k < 2 → parseFieldDescriptor (TX18 k).2.2.1 = some (tyX18 k) := by decide +kernel
abbrev cX18_init : ByteArray := prog_13_method_1_code
def yX18_init : MethodName := ⟨RX18, "<init>", "(II)V"⟩
theorem q148 : (Jvm.Cond.initialized "ElephantEdge$Row") ∈ lw_all := lw_g (lw_at lw_m1 38 rfl) rfl
theorem q615 : (Jvm.Cond.instantiable "ElephantEdge$Row" (2 : Nat)) ∈ lw_all := lw_g (lw_at lw_m3 25 rfl) rfl
theorem q617 : (Jvm.Cond.instanceMethod ({ cls := "ElephantEdge$Row", name := "<init>", desc := "(II)V" } : Jvm.MethodName)) ∈ lw_all := lw_g (lw_at lw_m3 27 rfl) rfl
theorem q618 : (Jvm.Cond.code ({ cls := "ElephantEdge$Row", name := "<init>", desc := "(II)V" } : Jvm.MethodName) prog_13_method_1_code (3 : Nat) (Option.none : Option Jvm.ClassFile.FieldType)) ∈ lw_all := lw_g (lw_at lw_m3 28 rfl) rfl
theorem q619 : (Jvm.Cond.methodLink "ElephantEdge$Row" (1 : Nat) ({ cls := "java/lang/Object", name := "<init>", desc := "()V" } : Jvm.MethodName)) ∈ lw_all := lw_g (lw_at lw_m3 29 rfl) rfl
theorem q620 : (Jvm.Cond.fieldLink "ElephantEdge$Row" (7 : Nat) "ElephantEdge$Row" "told" "I") ∈ lw_all := lw_g (lw_at lw_m3 30 rfl) rfl
theorem q622 : (Jvm.Cond.fieldLink "ElephantEdge$Row" (13 : Nat) "ElephantEdge$Row" "lost" "I") ∈ lw_all := lw_g (lw_at lw_m3 32 rfl) rfl
theorem q624 : (Jvm.Cond.laysFinal "ElephantEdge$Row" "ElephantEdge$Row" "told" "I") ∈ lw_all := lw_g (lw_at lw_m3 34 rfl) rfl
theorem q625 : (Jvm.Cond.soleField "ElephantEdge$Row" "told") ∈ lw_all := lw_g (lw_at lw_m3 35 rfl) rfl
theorem q626 : (Jvm.Cond.laysFinal "ElephantEdge$Row" "ElephantEdge$Row" "lost" "I") ∈ lw_all := lw_g (lw_at lw_m3 36 rfl) rfl
theorem q627 : (Jvm.Cond.soleField "ElephantEdge$Row" "lost") ∈ lw_all := lw_g (lw_at lw_m3 37 rfl) rfl
theorem q628 : (Jvm.Cond.superclass "ElephantEdge$Row" "java/lang/Object") ∈ lw_all := lw_g (lw_at lw_m3 38 rfl) rfl
theorem q670 : (Jvm.Cond.selects "ElephantEdge$Row" ({ cls := "java/lang/Object", name := "getClass", desc := "()Ljava/lang/Class;" } : Jvm.MethodName) ({ cls := "java/lang/Object", name := "getClass", desc := "()Ljava/lang/Class;" } : Jvm.MethodName)) ∈ lw_all := lw_g (lw_at lw_m3 80 rfl) rfl
theorem q2534 : (Jvm.Cond.castable "ElephantEdge$Row" "java/lang/Object") ∈ lw_tbl := lw_at lw_m11 24 rfl
theorem in_X18 : ∀ w ∈ wsX180, w ∈ lw_all := lw_in wsX180 [624, 626] (by decide +kernel) (by decide +kernel)
/-! java/lang/Integer -/
def RJ19 : String := "java/lang/Integer"
abbrev cJ19_bitCount : ByteArray := prog_33_method_49_code
def yJ19_bitCount : MethodName := ⟨RJ19, "bitCount", "(I)I"⟩
theorem q149 : (Jvm.Cond.initialized "java/lang/Integer") ∈ lw_all := lw_g (lw_at lw_m1 39 rfl) rfl
theorem q1276 : (Jvm.Cond.static ({ cls := "java/lang/Integer", name := "bitCount", desc := "(I)I" } : Jvm.MethodName)) ∈ lw_all := lw_g (lw_at lw_m5 206 rfl) rfl
theorem q1277 : (Jvm.Cond.code ({ cls := "java/lang/Integer", name := "bitCount", desc := "(I)I" } : Jvm.MethodName) prog_33_method_49_code (1 : Nat) (Option.some Jvm.ClassFile.FieldType.int)) ∈ lw_all := lw_g (lw_at lw_m5 207 rfl) rfl
theorem q1278 : (Jvm.Cond.constant "java/lang/Integer" (265 : Nat) (1431655765 : Int32)) ∈ lw_all := lw_g (lw_at lw_m5 208 rfl) rfl
theorem q1279 : (Jvm.Cond.constant "java/lang/Integer" (266 : Nat) (858993459 : Int32)) ∈ lw_all := lw_g (lw_at lw_m5 209 rfl) rfl
theorem q1280 : (Jvm.Cond.constant "java/lang/Integer" (267 : Nat) (252645135 : Int32)) ∈ lw_all := lw_g (lw_at lw_m5 210 rfl) rfl
/-! ElephantEdge$Rota -/
def RX19 : String := "ElephantEdge$Rota"
def TX19 : u_T := fun k => match k with
  | 0 => ("ElephantEdge$Rota", "nights", "I", true)
  | 1 => ("ElephantEdge$Rota", "need", "I", true)
  | 2 => ("ElephantEdge$Rota", "sets", "[I", true)
  | 3 => ("ElephantEdge$Rota", "best", "[I", true)
  | 4 => ("ElephantEdge$Rota", "loads", "[I", true)
  | 5 => ("ElephantEdge$Rota", "most", "I", false)
  | 6 => ("ElephantEdge$Rota", "squares", "I", false)
  | 7 => ("ElephantEdge$Rota", "isThere", "Z", false)
  | 8 => ("ElephantEdge$Rota", "isWhole", "Z", false)
  | _ => ("ElephantEdge$Rota", "this$0", "LElephantEdge;", true)
def tyX19 : Nat → FieldType := fun k => match k with
  | 0 => .int
  | 1 => .int
  | 2 => .array .int
  | 3 => .array .int
  | 4 => .array .int
  | 5 => .int
  | 6 => .int
  | 7 => .boolean
  | 8 => .boolean
  | _ => .object "ElephantEdge"
abbrev wsX190 : List Cond := u_ws RX19 TX19 10
theorem nmX19 : ∀ a, a < 10 → ∀ b, b < 10 → a ≠ b → (TX19 a).2.1 ≠ (TX19 b).2.1 := by decide +kernel
theorem tyX19_ok : ∀ k, k < 10 → parseFieldDescriptor (TX19 k).2.2.1 = some (tyX19 k) := by decide +kernel
abbrev cX19_init : ByteArray := prog_12_method_1_code
def yX19_init : MethodName := ⟨RX19, "<init>", "(LElephantEdge;II)V"⟩
abbrev cX19_goes : ByteArray := prog_12_method_3_code
def yX19_goes : MethodName := ⟨RX19, "goes", "(II)V"⟩
abbrev cX19_isBetter : ByteArray := prog_12_method_2_code
def yX19_isBetter : MethodName := ⟨RX19, "isBetter", "()Z"⟩
abbrev cX19_may : ByteArray := prog_12_method_4_code
def yX19_may : MethodName := ⟨RX19, "may", "(III)Z"⟩
abbrev cX19_takes : ByteArray := prog_12_method_5_code
def yX19_takes : MethodName := ⟨RX19, "takes", "(II)V"⟩
theorem q150 : (Jvm.Cond.initialized "ElephantEdge$Rota") ∈ lw_all := lw_g (lw_at lw_m1 40 rfl) rfl
theorem q372 : (Jvm.Cond.fieldLinkNest "ElephantEdge$Rota" (39 : Nat) "ElephantEdge" "watchedNights" "[I" "ElephantEdge") ∈ lw_tbl := lw_at lw_m2 22 rfl
theorem q385 : (Jvm.Cond.fieldLinkNest "ElephantEdge$Rota" (42 : Nat) "ElephantEdge" "watchedLast" "[Z" "ElephantEdge") ∈ lw_tbl := lw_at lw_m2 35 rfl
theorem q387 : (Jvm.Cond.fieldLinkNest "ElephantEdge$Rota" (50 : Nat) "ElephantEdge" "joins" "[Z" "ElephantEdge") ∈ lw_tbl := lw_at lw_m2 37 rfl
theorem q395 : (Jvm.Cond.fieldLinkNest "ElephantEdge$Rota" (83 : Nat) "ElephantEdge" "night" "I" "ElephantEdge") ∈ lw_tbl := lw_at lw_m2 45 rfl
theorem q669 : (Jvm.Cond.selects "ElephantEdge$Rota" ({ cls := "java/lang/Object", name := "getClass", desc := "()Ljava/lang/Class;" } : Jvm.MethodName) ({ cls := "java/lang/Object", name := "getClass", desc := "()Ljava/lang/Class;" } : Jvm.MethodName)) ∈ lw_all := lw_g (lw_at lw_m3 79 rfl) rfl
theorem q1306 : (Jvm.Cond.instantiable "ElephantEdge$Rota" (10 : Nat)) ∈ lw_all := lw_g (lw_at lw_m5 236 rfl) rfl
theorem q1308 : (Jvm.Cond.instanceMethod ({ cls := "ElephantEdge$Rota", name := "<init>", desc := "(LElephantEdge;II)V" } : Jvm.MethodName)) ∈ lw_all := lw_g (lw_at lw_m5 238 rfl) rfl
theorem q1309 : (Jvm.Cond.code ({ cls := "ElephantEdge$Rota", name := "<init>", desc := "(LElephantEdge;II)V" } : Jvm.MethodName) prog_12_method_1_code (6 : Nat) (Option.none : Option Jvm.ClassFile.FieldType)) ∈ lw_all := lw_g (lw_at lw_m5 239 rfl) rfl
theorem q1310 : (Jvm.Cond.methodLink "ElephantEdge$Rota" (9 : Nat) ({ cls := "java/lang/Object", name := "<init>", desc := "()V" } : Jvm.MethodName)) ∈ lw_all := lw_g (lw_at lw_m6 0 rfl) rfl
theorem q1311 : (Jvm.Cond.constant "ElephantEdge$Rota" (19 : Nat) (1000000000 : Int32)) ∈ lw_all := lw_g (lw_at lw_m6 1 rfl) rfl
theorem q1312 : (Jvm.Cond.methodLink "ElephantEdge$Rota" (46 : Nat) ({ cls := "ElephantEdge$Rota", name := "goes", desc := "(II)V" } : Jvm.MethodName)) ∈ lw_all := lw_g (lw_at lw_m6 2 rfl) rfl
theorem q1313 : (Jvm.Cond.privateMethod ({ cls := "ElephantEdge$Rota", name := "goes", desc := "(II)V" } : Jvm.MethodName)) ∈ lw_tbl := lw_at lw_m6 3 rfl
theorem q1314 : (Jvm.Cond.instanceMethod ({ cls := "ElephantEdge$Rota", name := "goes", desc := "(II)V" } : Jvm.MethodName)) ∈ lw_all := lw_g (lw_at lw_m6 4 rfl) rfl
theorem q1315 : (Jvm.Cond.code ({ cls := "ElephantEdge$Rota", name := "goes", desc := "(II)V" } : Jvm.MethodName) prog_12_method_3_code (5 : Nat) (Option.none : Option Jvm.ClassFile.FieldType)) ∈ lw_all := lw_g (lw_at lw_m6 5 rfl) rfl
theorem q1316 : (Jvm.Cond.methodLink "ElephantEdge$Rota" (63 : Nat) ({ cls := "ElephantEdge$Rota", name := "isBetter", desc := "()Z" } : Jvm.MethodName)) ∈ lw_all := lw_g (lw_at lw_m6 6 rfl) rfl
theorem q1317 : (Jvm.Cond.privateMethod ({ cls := "ElephantEdge$Rota", name := "isBetter", desc := "()Z" } : Jvm.MethodName)) ∈ lw_tbl := lw_at lw_m6 7 rfl
theorem q1318 : (Jvm.Cond.instanceMethod ({ cls := "ElephantEdge$Rota", name := "isBetter", desc := "()Z" } : Jvm.MethodName)) ∈ lw_all := lw_g (lw_at lw_m6 8 rfl) rfl
theorem q1319 : (Jvm.Cond.code ({ cls := "ElephantEdge$Rota", name := "isBetter", desc := "()Z" } : Jvm.MethodName) prog_12_method_2_code (4 : Nat) (Option.some Jvm.ClassFile.FieldType.boolean)) ∈ lw_all := lw_g (lw_at lw_m6 9 rfl) rfl
theorem q1320 : (Jvm.Cond.methodLink "ElephantEdge$Rota" (53 : Nat) ({ cls := "java/lang/Math", name := "max", desc := "(II)I" } : Jvm.MethodName)) ∈ lw_all := lw_g (lw_at lw_m6 10 rfl) rfl
theorem q1321 : (Jvm.Cond.methodLink "ElephantEdge$Rota" (70 : Nat) ({ cls := "java/lang/System", name := "arraycopy", desc := "(Ljava/lang/Object;ILjava/lang/Object;II)V" } : Jvm.MethodName)) ∈ lw_all := lw_g (lw_at lw_m6 11 rfl) rfl
theorem q1322 : (Jvm.Cond.methodLink "ElephantEdge$Rota" (76 : Nat) ({ cls := "ElephantEdge$Rota", name := "may", desc := "(III)Z" } : Jvm.MethodName)) ∈ lw_all := lw_g (lw_at lw_m6 12 rfl) rfl
theorem q1323 : (Jvm.Cond.privateMethod ({ cls := "ElephantEdge$Rota", name := "may", desc := "(III)Z" } : Jvm.MethodName)) ∈ lw_tbl := lw_at lw_m6 13 rfl
theorem q1324 : (Jvm.Cond.instanceMethod ({ cls := "ElephantEdge$Rota", name := "may", desc := "(III)Z" } : Jvm.MethodName)) ∈ lw_all := lw_g (lw_at lw_m6 14 rfl) rfl
theorem q1325 : (Jvm.Cond.code ({ cls := "ElephantEdge$Rota", name := "may", desc := "(III)Z" } : Jvm.MethodName) prog_12_method_4_code (4 : Nat) (Option.some Jvm.ClassFile.FieldType.boolean)) ∈ lw_all := lw_g (lw_at lw_m6 15 rfl) rfl
theorem q1326 : (Jvm.Cond.methodLinkNest "ElephantEdge$Rota" (86 : Nat) ({ cls := "ElephantEdge", name := "isAway", desc := "(II)Z" } : Jvm.MethodName) "ElephantEdge") ∈ lw_tbl := lw_at lw_m6 16 rfl
theorem q1330 : (Jvm.Cond.methodLink "ElephantEdge$Rota" (80 : Nat) ({ cls := "ElephantEdge$Rota", name := "takes", desc := "(II)V" } : Jvm.MethodName)) ∈ lw_all := lw_g (lw_at lw_m6 20 rfl) rfl
theorem q1331 : (Jvm.Cond.privateMethod ({ cls := "ElephantEdge$Rota", name := "takes", desc := "(II)V" } : Jvm.MethodName)) ∈ lw_tbl := lw_at lw_m6 21 rfl
theorem q1332 : (Jvm.Cond.instanceMethod ({ cls := "ElephantEdge$Rota", name := "takes", desc := "(II)V" } : Jvm.MethodName)) ∈ lw_all := lw_g (lw_at lw_m6 22 rfl) rfl
theorem q1333 : (Jvm.Cond.code ({ cls := "ElephantEdge$Rota", name := "takes", desc := "(II)V" } : Jvm.MethodName) prog_12_method_5_code (4 : Nat) (Option.none : Option Jvm.ClassFile.FieldType)) ∈ lw_all := lw_g (lw_at lw_m6 23 rfl) rfl
theorem q1334 : (Jvm.Cond.fieldLink "ElephantEdge$Rota" (27 : Nat) "ElephantEdge$Rota" "nights" "I") ∈ lw_all := lw_g (lw_at lw_m6 24 rfl) rfl
theorem q1335 : (Jvm.Cond.fieldLink "ElephantEdge$Rota" (30 : Nat) "ElephantEdge$Rota" "need" "I") ∈ lw_all := lw_g (lw_at lw_m6 25 rfl) rfl
theorem q1336 : (Jvm.Cond.fieldLink "ElephantEdge$Rota" (33 : Nat) "ElephantEdge$Rota" "sets" "[I") ∈ lw_all := lw_g (lw_at lw_m6 26 rfl) rfl
theorem q1337 : (Jvm.Cond.fieldLink "ElephantEdge$Rota" (36 : Nat) "ElephantEdge$Rota" "best" "[I") ∈ lw_all := lw_g (lw_at lw_m6 27 rfl) rfl
theorem q1339 : (Jvm.Cond.fieldLink "ElephantEdge$Rota" (15 : Nat) "ElephantEdge$Rota" "loads" "[I") ∈ lw_all := lw_g (lw_at lw_m6 29 rfl) rfl
theorem q1340 : (Jvm.Cond.fieldLink "ElephantEdge$Rota" (20 : Nat) "ElephantEdge$Rota" "most" "I") ∈ lw_all := lw_g (lw_at lw_m6 30 rfl) rfl
theorem q1341 : (Jvm.Cond.fieldLink "ElephantEdge$Rota" (24 : Nat) "ElephantEdge$Rota" "squares" "I") ∈ lw_all := lw_g (lw_at lw_m6 31 rfl) rfl
theorem q1343 : (Jvm.Cond.fieldLink "ElephantEdge$Rota" (67 : Nat) "ElephantEdge$Rota" "isThere" "Z") ∈ lw_all := lw_g (lw_at lw_m6 33 rfl) rfl
theorem q1345 : (Jvm.Cond.fieldLink "ElephantEdge$Rota" (59 : Nat) "ElephantEdge$Rota" "isWhole" "Z") ∈ lw_all := lw_g (lw_at lw_m6 35 rfl) rfl
theorem q1346 : (Jvm.Cond.fieldLink "ElephantEdge$Rota" (3 : Nat) "ElephantEdge$Rota" "this$0" "LElephantEdge;") ∈ lw_all := lw_g (lw_at lw_m6 36 rfl) rfl
theorem q1347 : (Jvm.Cond.laysFinal "ElephantEdge$Rota" "ElephantEdge$Rota" "nights" "I") ∈ lw_all := lw_g (lw_at lw_m6 37 rfl) rfl
theorem q1348 : (Jvm.Cond.soleField "ElephantEdge$Rota" "nights") ∈ lw_all := lw_g (lw_at lw_m6 38 rfl) rfl
theorem q1349 : (Jvm.Cond.laysFinal "ElephantEdge$Rota" "ElephantEdge$Rota" "need" "I") ∈ lw_all := lw_g (lw_at lw_m6 39 rfl) rfl
theorem q1350 : (Jvm.Cond.soleField "ElephantEdge$Rota" "need") ∈ lw_all := lw_g (lw_at lw_m6 40 rfl) rfl
theorem q1351 : (Jvm.Cond.laysFinal "ElephantEdge$Rota" "ElephantEdge$Rota" "sets" "[I") ∈ lw_all := lw_g (lw_at lw_m6 41 rfl) rfl
theorem q1352 : (Jvm.Cond.soleField "ElephantEdge$Rota" "sets") ∈ lw_all := lw_g (lw_at lw_m6 42 rfl) rfl
theorem q1353 : (Jvm.Cond.laysFinal "ElephantEdge$Rota" "ElephantEdge$Rota" "best" "[I") ∈ lw_all := lw_g (lw_at lw_m6 43 rfl) rfl
theorem q1354 : (Jvm.Cond.soleField "ElephantEdge$Rota" "best") ∈ lw_all := lw_g (lw_at lw_m6 44 rfl) rfl
theorem q1355 : (Jvm.Cond.laysFinal "ElephantEdge$Rota" "ElephantEdge$Rota" "loads" "[I") ∈ lw_all := lw_g (lw_at lw_m6 45 rfl) rfl
theorem q1356 : (Jvm.Cond.soleField "ElephantEdge$Rota" "loads") ∈ lw_all := lw_g (lw_at lw_m6 46 rfl) rfl
theorem q1357 : (Jvm.Cond.lays "ElephantEdge$Rota" "ElephantEdge$Rota" "most" "I") ∈ lw_all := lw_g (lw_at lw_m6 47 rfl) rfl
theorem q1358 : (Jvm.Cond.soleField "ElephantEdge$Rota" "most") ∈ lw_all := lw_g (lw_at lw_m6 48 rfl) rfl
theorem q1359 : (Jvm.Cond.lays "ElephantEdge$Rota" "ElephantEdge$Rota" "squares" "I") ∈ lw_all := lw_g (lw_at lw_m6 49 rfl) rfl
theorem q1360 : (Jvm.Cond.soleField "ElephantEdge$Rota" "squares") ∈ lw_all := lw_g (lw_at lw_m6 50 rfl) rfl
theorem q1361 : (Jvm.Cond.lays "ElephantEdge$Rota" "ElephantEdge$Rota" "isThere" "Z") ∈ lw_all := lw_g (lw_at lw_m6 51 rfl) rfl
theorem q1362 : (Jvm.Cond.soleField "ElephantEdge$Rota" "isThere") ∈ lw_all := lw_g (lw_at lw_m6 52 rfl) rfl
theorem q1363 : (Jvm.Cond.lays "ElephantEdge$Rota" "ElephantEdge$Rota" "isWhole" "Z") ∈ lw_all := lw_g (lw_at lw_m6 53 rfl) rfl
theorem q1364 : (Jvm.Cond.soleField "ElephantEdge$Rota" "isWhole") ∈ lw_all := lw_g (lw_at lw_m6 54 rfl) rfl
theorem q1365 : (Jvm.Cond.laysFinal "ElephantEdge$Rota" "ElephantEdge$Rota" "this$0" "LElephantEdge;") ∈ lw_all := lw_g (lw_at lw_m6 55 rfl) rfl
theorem q1366 : (Jvm.Cond.soleField "ElephantEdge$Rota" "this$0") ∈ lw_all := lw_g (lw_at lw_m6 56 rfl) rfl
theorem q1367 : (Jvm.Cond.superclass "ElephantEdge$Rota" "java/lang/Object") ∈ lw_all := lw_g (lw_at lw_m6 57 rfl) rfl
theorem q2535 : (Jvm.Cond.castable "ElephantEdge$Rota" "java/lang/Object") ∈ lw_tbl := lw_at lw_m11 25 rfl
theorem in_X19 : ∀ w ∈ wsX190, w ∈ lw_all := lw_in wsX190 [1347, 1349, 1351, 1353, 1355, 1357, 1359, 1361, 1363, 1365] (by decide +kernel) (by decide +kernel)
/-! ElephantEdge$Wire -/
def RX20 : String := "ElephantEdge$Wire"
def TX20 : u_T := fun k => match k with
  | 0 => ("ElephantEdge$Wire", "one", "I", true)
  | 1 => ("ElephantEdge$Wire", "other", "I", true)
  | _ => ("ElephantEdge$Wire", "weak", "I", true)
def tyX20 : Nat → FieldType := fun k => match k with
  | 0 => .int
  | 1 => .int
  | _ => .int
abbrev wsX200 : List Cond := u_ws RX20 TX20 3
theorem nmX20 : ∀ a, a < 3 → ∀ b, b < 3 → a ≠ b → (TX20 a).2.1 ≠ (TX20 b).2.1 := by decide +kernel
theorem tyX20_ok : ∀ k, k < 3 → parseFieldDescriptor (TX20 k).2.2.1 = some (tyX20 k) := by decide +kernel
abbrev cX20_init : ByteArray := prog_20_method_1_code
def yX20_init : MethodName := ⟨RX20, "<init>", "(III)V"⟩
theorem q151 : (Jvm.Cond.initialized "ElephantEdge$Wire") ∈ lw_all := lw_g (lw_at lw_m1 41 rfl) rfl
theorem q676 : (Jvm.Cond.selects "ElephantEdge$Wire" ({ cls := "java/lang/Object", name := "getClass", desc := "()Ljava/lang/Class;" } : Jvm.MethodName) ({ cls := "java/lang/Object", name := "getClass", desc := "()Ljava/lang/Class;" } : Jvm.MethodName)) ∈ lw_all := lw_g (lw_at lw_m3 86 rfl) rfl
theorem q1536 : (Jvm.Cond.instantiable "ElephantEdge$Wire" (3 : Nat)) ∈ lw_all := lw_g (lw_at lw_m6 226 rfl) rfl
theorem q1538 : (Jvm.Cond.instanceMethod ({ cls := "ElephantEdge$Wire", name := "<init>", desc := "(III)V" } : Jvm.MethodName)) ∈ lw_all := lw_g (lw_at lw_m6 228 rfl) rfl
theorem q1539 : (Jvm.Cond.code ({ cls := "ElephantEdge$Wire", name := "<init>", desc := "(III)V" } : Jvm.MethodName) prog_20_method_1_code (4 : Nat) (Option.none : Option Jvm.ClassFile.FieldType)) ∈ lw_all := lw_g (lw_at lw_m6 229 rfl) rfl
theorem q1540 : (Jvm.Cond.methodLink "ElephantEdge$Wire" (1 : Nat) ({ cls := "java/lang/Object", name := "<init>", desc := "()V" } : Jvm.MethodName)) ∈ lw_all := lw_g (lw_at lw_m6 230 rfl) rfl
theorem q1541 : (Jvm.Cond.fieldLink "ElephantEdge$Wire" (7 : Nat) "ElephantEdge$Wire" "one" "I") ∈ lw_all := lw_g (lw_at lw_m6 231 rfl) rfl
theorem q1543 : (Jvm.Cond.fieldLink "ElephantEdge$Wire" (13 : Nat) "ElephantEdge$Wire" "other" "I") ∈ lw_all := lw_g (lw_at lw_m6 233 rfl) rfl
theorem q1545 : (Jvm.Cond.fieldLink "ElephantEdge$Wire" (16 : Nat) "ElephantEdge$Wire" "weak" "I") ∈ lw_all := lw_g (lw_at lw_m6 235 rfl) rfl
theorem q1547 : (Jvm.Cond.laysFinal "ElephantEdge$Wire" "ElephantEdge$Wire" "one" "I") ∈ lw_all := lw_g (lw_at lw_m6 237 rfl) rfl
theorem q1548 : (Jvm.Cond.soleField "ElephantEdge$Wire" "one") ∈ lw_all := lw_g (lw_at lw_m6 238 rfl) rfl
theorem q1549 : (Jvm.Cond.laysFinal "ElephantEdge$Wire" "ElephantEdge$Wire" "other" "I") ∈ lw_all := lw_g (lw_at lw_m6 239 rfl) rfl
theorem q1550 : (Jvm.Cond.soleField "ElephantEdge$Wire" "other") ∈ lw_all := lw_g (lw_at lw_m7 0 rfl) rfl
theorem q1551 : (Jvm.Cond.laysFinal "ElephantEdge$Wire" "ElephantEdge$Wire" "weak" "I") ∈ lw_all := lw_g (lw_at lw_m7 1 rfl) rfl
theorem q1552 : (Jvm.Cond.soleField "ElephantEdge$Wire" "weak") ∈ lw_all := lw_g (lw_at lw_m7 2 rfl) rfl
theorem q1553 : (Jvm.Cond.superclass "ElephantEdge$Wire" "java/lang/Object") ∈ lw_all := lw_g (lw_at lw_m7 3 rfl) rfl
theorem q2536 : (Jvm.Cond.castable "ElephantEdge$Wire" "java/lang/Object") ∈ lw_tbl := lw_at lw_m11 26 rfl
theorem in_X20 : ∀ w ∈ wsX200, w ∈ lw_all := lw_in wsX200 [1547, 1549, 1551] (by decide +kernel) (by decide +kernel)
/-! ElephantEdge$Trip -/
def RX21 : String := "ElephantEdge$Trip"
def TX21 : u_T := fun k => match k with
  | 0 => ("ElephantEdge$Trip", "wire", "LElephantEdge$Wire;", true)
  | _ => ("ElephantEdge$Trip", "hour", "I", true)
def tyX21 : Nat → FieldType := fun k => match k with
  | 0 => .object "ElephantEdge$Wire"
  | _ => .int
abbrev wsX210 : List Cond := u_ws RX21 TX21 2
theorem nmX21 : ∀ a, a < 2 → ∀ b, b < 2 → a ≠ b → (TX21 a).2.1 ≠ (TX21 b).2.1 := by decide +kernel
theorem tyX21_ok : ∀ k, k < 2 → parseFieldDescriptor (TX21 k).2.2.1 = some (tyX21 k) := by decide +kernel
abbrev cX21_init : ByteArray := prog_17_method_1_code
def yX21_init : MethodName := ⟨RX21, "<init>", "(LElephantEdge$Wire;I)V"⟩
theorem q152 : (Jvm.Cond.initialized "ElephantEdge$Trip") ∈ lw_all := lw_g (lw_at lw_m1 42 rfl) rfl
theorem q674 : (Jvm.Cond.selects "ElephantEdge$Trip" ({ cls := "java/lang/Object", name := "getClass", desc := "()Ljava/lang/Class;" } : Jvm.MethodName) ({ cls := "java/lang/Object", name := "getClass", desc := "()Ljava/lang/Class;" } : Jvm.MethodName)) ∈ lw_all := lw_g (lw_at lw_m3 84 rfl) rfl
theorem q1577 : (Jvm.Cond.instantiable "ElephantEdge$Trip" (2 : Nat)) ∈ lw_all := lw_g (lw_at lw_m7 27 rfl) rfl
theorem q1579 : (Jvm.Cond.instanceMethod ({ cls := "ElephantEdge$Trip", name := "<init>", desc := "(LElephantEdge$Wire;I)V" } : Jvm.MethodName)) ∈ lw_all := lw_g (lw_at lw_m7 29 rfl) rfl
theorem q1580 : (Jvm.Cond.code ({ cls := "ElephantEdge$Trip", name := "<init>", desc := "(LElephantEdge$Wire;I)V" } : Jvm.MethodName) prog_17_method_1_code (3 : Nat) (Option.none : Option Jvm.ClassFile.FieldType)) ∈ lw_all := lw_g (lw_at lw_m7 30 rfl) rfl
theorem q1581 : (Jvm.Cond.methodLink "ElephantEdge$Trip" (1 : Nat) ({ cls := "java/lang/Object", name := "<init>", desc := "()V" } : Jvm.MethodName)) ∈ lw_all := lw_g (lw_at lw_m7 31 rfl) rfl
theorem q1582 : (Jvm.Cond.fieldLink "ElephantEdge$Trip" (7 : Nat) "ElephantEdge$Trip" "wire" "LElephantEdge$Wire;") ∈ lw_all := lw_g (lw_at lw_m7 32 rfl) rfl
theorem q1584 : (Jvm.Cond.fieldLink "ElephantEdge$Trip" (13 : Nat) "ElephantEdge$Trip" "hour" "I") ∈ lw_all := lw_g (lw_at lw_m7 34 rfl) rfl
theorem q1586 : (Jvm.Cond.laysFinal "ElephantEdge$Trip" "ElephantEdge$Trip" "wire" "LElephantEdge$Wire;") ∈ lw_all := lw_g (lw_at lw_m7 36 rfl) rfl
theorem q1587 : (Jvm.Cond.soleField "ElephantEdge$Trip" "wire") ∈ lw_all := lw_g (lw_at lw_m7 37 rfl) rfl
theorem q1588 : (Jvm.Cond.laysFinal "ElephantEdge$Trip" "ElephantEdge$Trip" "hour" "I") ∈ lw_all := lw_g (lw_at lw_m7 38 rfl) rfl
theorem q1589 : (Jvm.Cond.soleField "ElephantEdge$Trip" "hour") ∈ lw_all := lw_g (lw_at lw_m7 39 rfl) rfl
theorem q1590 : (Jvm.Cond.superclass "ElephantEdge$Trip" "java/lang/Object") ∈ lw_all := lw_g (lw_at lw_m7 40 rfl) rfl
theorem q2537 : (Jvm.Cond.castable "ElephantEdge$Trip" "java/lang/Object") ∈ lw_tbl := lw_at lw_m11 27 rfl
theorem in_X21 : ∀ w ∈ wsX210, w ∈ lw_all := lw_in wsX210 [1586, 1588] (by decide +kernel) (by decide +kernel)
/-! java/lang/Object -/
def RJ20 : String := "java/lang/Object"
abbrev cJ20_init : ByteArray := object_method_1_code
def yJ20_init : MethodName := ⟨RJ20, "<init>", "()V"⟩
theorem q159 : (Jvm.Cond.instanceMethod ({ cls := "java/lang/Object", name := "<init>", desc := "()V" } : Jvm.MethodName)) ∈ lw_all := lw_g (lw_at lw_m1 49 rfl) rfl
theorem q160 : (Jvm.Cond.code ({ cls := "java/lang/Object", name := "<init>", desc := "()V" } : Jvm.MethodName) object_method_1_code (1 : Nat) (Option.none : Option Jvm.ClassFile.FieldType)) ∈ lw_all := lw_g (lw_at lw_m1 50 rfl) rfl
theorem q657 : (Jvm.Cond.instanceMethod ({ cls := "java/lang/Object", name := "getClass", desc := "()Ljava/lang/Class;" } : Jvm.MethodName)) ∈ lw_all := lw_g (lw_at lw_m3 67 rfl) rfl
theorem q658 : (Jvm.Cond.sameMethod "java/lang/Object" "java/lang/Object" "getClass" "()Ljava/lang/Class;") ∈ lw_all := lw_g (lw_at lw_m3 68 rfl) rfl
theorem q685 : (Jvm.Cond.native ({ cls := "java/lang/Object", name := "getClass", desc := "()Ljava/lang/Class;" } : Jvm.MethodName)) ∈ lw_all := lw_g (lw_at lw_m3 95 rfl) rfl
theorem q2510 : (Jvm.Cond.initialized "java/lang/Object") ∈ lw_all := lw_g (lw_at lw_m11 0 rfl) rfl
theorem q2542 : (Jvm.Cond.declares ({ cls := "java/lang/Object", name := "getClass", desc := "()Ljava/lang/Class;" } : Jvm.MethodName)) ∈ lw_tbl := lw_at lw_m11 32 rfl
theorem q200 : (Jvm.Cond.arrayClass Jvm.ClassFile.FieldType.byte) ∈ lw_all := lw_g (lw_at lw_m1 90 rfl) rfl
theorem q201 : (Jvm.Cond.arrayClass Jvm.ClassFile.FieldType.int) ∈ lw_all := lw_g (lw_at lw_m1 91 rfl) rfl
theorem q224 : (Jvm.Cond.arrayClass Jvm.ClassFile.FieldType.boolean) ∈ lw_all := lw_g (lw_at lw_m1 114 rfl) rfl
theorem q266 : (Jvm.Cond.arrayOver (Jvm.ClassFile.FieldType.array Jvm.ClassFile.FieldType.boolean)) ∈ lw_tbl := lw_at lw_m1 156 rfl
theorem q274 : (Jvm.Cond.arrayOver (Jvm.ClassFile.FieldType.array Jvm.ClassFile.FieldType.int)) ∈ lw_tbl := lw_at lw_m1 164 rfl
theorem q690 : (Jvm.Cond.arrayOver (Jvm.ClassFile.FieldType.object "java/lang/Object")) ∈ lw_tbl := lw_at lw_m3 100 rfl
theorem q2508 : (Jvm.Cond.arrayClass Jvm.ClassFile.FieldType.long) ∈ lw_all := lw_g (lw_at lw_m10 238 rfl) rfl
theorem q145 : (Jvm.Cond.initialized "java/lang/System") ∈ lw_all := lw_g (lw_at lw_m1 35 rfl) rfl
theorem q494 : (Jvm.Cond.static ({ cls := "java/lang/System", name := "arraycopy", desc := "(Ljava/lang/Object;ILjava/lang/Object;II)V" } : Jvm.MethodName)) ∈ lw_all := lw_g (lw_at lw_m2 144 rfl) rfl
theorem q495 : (Jvm.Cond.native ({ cls := "java/lang/System", name := "arraycopy", desc := "(Ljava/lang/Object;ILjava/lang/Object;II)V" } : Jvm.MethodName)) ∈ lw_all := lw_g (lw_at lw_m2 145 rfl) rfl
theorem q1423 : (Jvm.Cond.interfaceMethod "ElephantEdge$Formula" "ElephantEdge$Formula" "value" "([I)I") ∈ lw_tbl := lw_at lw_m6 113 rfl
theorem q1424 : (Jvm.Cond.declares ({ cls := "ElephantEdge$Formula", name := "value", desc := "([I)I" } : Jvm.MethodName)) ∈ lw_tbl := lw_at lw_m6 114 rfl
theorem q2540 : (Jvm.Cond.sameMethod "[Ljava/lang/Object;" "java/lang/Object" "getClass" "()Ljava/lang/Class;") ∈ lw_all := lw_g (lw_at lw_m11 30 rfl) rfl
theorem q2541 : (Jvm.Cond.selects "[Ljava/lang/Object;" ({ cls := "java/lang/Object", name := "getClass", desc := "()Ljava/lang/Class;" } : Jvm.MethodName) ({ cls := "java/lang/Object", name := "getClass", desc := "()Ljava/lang/Class;" } : Jvm.MethodName)) ∈ lw_all := lw_g (lw_at lw_m11 31 rfl) rfl
theorem q2548 : (Jvm.Cond.castable "[Ljava/lang/Object;" "java/lang/Object") ∈ lw_tbl := lw_at lw_m11 38 rfl
theorem q2543 : (Jvm.Cond.castable "[B" "java/lang/Object") ∈ lw_tbl := lw_at lw_m11 33 rfl
theorem q2544 : (Jvm.Cond.castable "[I" "java/lang/Object") ∈ lw_tbl := lw_at lw_m11 34 rfl
theorem q2545 : (Jvm.Cond.castable "[Z" "java/lang/Object") ∈ lw_tbl := lw_at lw_m11 35 rfl
theorem q2546 : (Jvm.Cond.castable "[[Z" "java/lang/Object") ∈ lw_tbl := lw_at lw_m11 36 rfl
theorem q2547 : (Jvm.Cond.castable "[[I" "java/lang/Object") ∈ lw_tbl := lw_at lw_m11 37 rfl
theorem q2549 : (Jvm.Cond.castable "[J" "java/lang/Object") ∈ lw_tbl := lw_at lw_m11 39 rfl
