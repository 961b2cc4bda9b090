set_option maxRecDepth 100000
/-! ===== the start: what the Statement gives ===== -/
def nf_ : List Cond := flatC (Cond.and given_1 narrow_1)
theorem nf_at {i : Nat} {w : Cond} (h : nf_[i]? = some w) : w ∈ nf_ := List.mem_of_getElem? h
theorem nf_in {L : List Cond} (ps : List Nat) (h : L = ps.filterMap (fun i => nf_[i]?)) : ∀ w ∈ L, w ∈ nf_ := by
  intro w hw
  rw [h] at hw
  obtain ⟨i, -, hi⟩ := List.mem_filterMap.mp hw
  exact List.mem_of_getElem? hi
def stm (i : Nat) : Term := .string (kown.getD i "") (kidx.getD i 0)
def nf1 : List Cond := (List.range 18).map fun i => Cond.exactly (stm i) "java/lang/String"
theorem nf1_in : ∀ w ∈ nf1, w ∈ nf_ := nf_in [148, 158, 170, 182, 269, 287, 308, 329, 350, 140, 195, 208, 223, 238, 253, 372, 396, 420] (by decide +kernel)
def nf2 : List Cond := (List.range 18).map fun i => Cond.eq (.field (stm i) "java/lang/String" "coder" "B") (.int 0)
theorem nf2_in : ∀ w ∈ nf2, w ∈ nf_ := nf_in [149, 159, 171, 183, 270, 288, 309, 330, 351, 141, 196, 209, 224, 239, 254, 373, 397, 421] (by decide +kernel)
def nf3 : List Cond := (List.range 18).map fun i => Cond.arrayOf (.field (stm i) "java/lang/String" "value" "[B") .byte
theorem nf3_in : ∀ w ∈ nf3, w ∈ nf_ := nf_in [150, 160, 172, 184, 271, 289, 310, 331, 352, 142, 197, 210, 225, 240, 255, 374, 398, 422] (by decide +kernel)
def nf4 : List Cond := (List.range 18).map fun i => Cond.eq (.length (.field (stm i) "java/lang/String" "value" "[B")) (.int (Int32.ofNat (klen.getD i 0)))
theorem nf4_in : ∀ w ∈ nf4, w ∈ nf_ := nf_in [151, 161, 173, 185, 272, 290, 311, 332, 353, 143, 198, 211, 226, 241, 256, 375, 399, 423] (by decide +kernel)
def nf5 : List Cond := (List.range 18).flatMap fun i => (List.range (klen.getD i 0)).map fun j => Cond.eq (.elem (.field (stm i) "java/lang/String" "value" "[B") (.int (Int32.ofNat j))) (.int ((kbyt.getD i []).getD j 0))
theorem nf5_in : ∀ w ∈ nf5, w ∈ nf_ := nf_in [152, 153, 154, 155, 156, 162, 163, 164, 165, 166, 167, 174, 175, 176, 177, 178, 186, 187, 188, 189, 190, 273, 274, 275, 276, 291, 292, 293, 294, 295, 296, 312, 313, 314, 315, 316, 333, 334, 335, 336, 354, 355, 356, 357, 144, 145, 146, 147, 199, 200, 201, 202, 212, 213, 214, 215, 216, 227, 228, 229, 230, 242, 243, 244, 257, 258, 259, 376, 377, 378, 379, 380, 400, 401, 402, 403, 424, 425] (by decide +kernel)
def nfP : List (Nat × Nat) := [(0, 1), (0, 2), (0, 3), (0, 4), (0, 5), (0, 6), (0, 7), (0, 8), (9, 0), (0, 10), (0, 11), (0, 12), (0, 13), (0, 14), (0, 15), (0, 16), (0, 17), (1, 2), (1, 3), (1, 4), (1, 5), (1, 6), (1, 7), (1, 8), (9, 1), (1, 10), (1, 11), (1, 12), (1, 13), (1, 14), (1, 15), (1, 16), (1, 17), (2, 3), (2, 4), (2, 5), (2, 6), (2, 7), (2, 8), (9, 2), (2, 10), (2, 11), (2, 12), (2, 13), (2, 14), (2, 15), (2, 16), (2, 17), (3, 4), (3, 5), (3, 6), (3, 7), (3, 8), (9, 3), (3, 10), (3, 11), (3, 12), (3, 13), (3, 14), (3, 15), (3, 16), (3, 17), (4, 5), (4, 6), (4, 7), (4, 8), (9, 4), (10, 4), (11, 4), (12, 4), (13, 4), (14, 4), (4, 15), (4, 16), (4, 17), (5, 6), (5, 7), (5, 8), (9, 5), (10, 5), (11, 5), (12, 5), (13, 5), (14, 5), (5, 15), (5, 16), (5, 17), (6, 7), (6, 8), (9, 6), (10, 6), (11, 6), (12, 6), (13, 6), (14, 6), (6, 15), (6, 16), (6, 17), (7, 8), (9, 7), (10, 7), (11, 7), (12, 7), (13, 7), (14, 7), (7, 15), (7, 16), (7, 17), (9, 8), (10, 8), (11, 8), (12, 8), (13, 8), (14, 8), (8, 15), (8, 16), (8, 17), (9, 10), (9, 11), (9, 12), (9, 13), (9, 14), (9, 15), (9, 16), (9, 17), (10, 11), (10, 12), (10, 13), (10, 14), (10, 15), (10, 16), (10, 17), (11, 12), (11, 13), (11, 14), (11, 15), (11, 16), (11, 17), (12, 13), (12, 14), (12, 15), (12, 16), (12, 17), (13, 14), (13, 15), (13, 16), (13, 17), (14, 15), (14, 16), (14, 17), (15, 16), (15, 17), (16, 17)]
def nf6 : List Cond := nfP.map fun p => Cond.not (.eq (stm p.1) (stm p.2))
theorem nf6_in : ∀ w ∈ nf6, w ∈ nf_ := nf_in [169, 180, 192, 278, 298, 318, 338, 359, 157, 204, 218, 232, 246, 261, 382, 405, 427, 181, 193, 279, 299, 319, 339, 360, 168, 205, 219, 233, 247, 262, 383, 406, 428, 194, 280, 300, 320, 340, 361, 179, 206, 220, 234, 248, 263, 384, 407, 429, 281, 301, 321, 341, 362, 191, 207, 221, 235, 249, 264, 385, 408, 430, 307, 327, 347, 368, 277, 282, 283, 284, 285, 286, 391, 414, 436, 328, 348, 369, 297, 302, 303, 304, 305, 306, 392, 415, 437, 349, 370, 317, 322, 323, 324, 325, 326, 393, 416, 438, 371, 337, 342, 343, 344, 345, 346, 394, 417, 439, 358, 363, 364, 365, 366, 367, 395, 418, 440, 203, 217, 231, 245, 260, 381, 404, 426, 222, 236, 250, 265, 386, 409, 431, 237, 251, 266, 387, 410, 432, 252, 267, 388, 411, 433, 268, 389, 412, 434, 390, 413, 435, 419, 441, 442] (by decide +kernel)
theorem nfP_all : ∀ i : Fin 18, ∀ j : Fin 18, i ≠ j → (i.val, j.val) ∈ nfP ∨ (j.val, i.val) ∈ nfP := by decide +kernel
def nfE : List (Nat × Nat) := [(0, 1), (0, 2), (0, 3), (0, 4), (1, 0), (1, 2), (1, 3), (1, 4), (2, 0), (2, 1), (2, 3), (2, 4), (3, 0), (3, 1), (3, 2), (3, 4), (4, 0), (4, 1), (4, 2), (4, 3)]
def nf7 : List Cond := nfE.map fun p => Cond.not (.castable (exN p.1) (exN p.2))
theorem nf7_in : ∀ w ∈ nf7, w ∈ nf_ := nf_in [50, 75, 125, 100, 25, 76, 126, 101, 26, 51, 127, 102, 33, 58, 83, 108, 27, 52, 77, 128] (by decide +kernel)
theorem nfE_all : ∀ i : Fin 5, ∀ j : Fin 5, i ≠ j → (i.val, j.val) ∈ nfE := by decide +kernel
theorem xw_tbl : ∀ w ∈ xw_, w ∈ lw_tbl := by
  intro w hw
  have h : xw_ = [163, 168, 170, 172, 174, 176, 204, 209, 211, 214, 227, 232, 318, 320, 322, 324, 326, 328, 330, 359, 372, 385, 387, 395, 507, 546, 621, 623, 697, 699, 701, 703, 791, 792, 793, 794, 795, 796, 797, 798, 799, 829, 853, 872, 968, 975, 1044, 1055, 1075, 1160, 1162, 1164, 1166, 1168, 1169, 1197, 1326, 1338, 1342, 1344, 1424, 1425, 1433, 1441, 1444, 1447, 1453, 1459, 1463, 1513, 1542, 1544, 1546, 1583, 1585, 2511, 2512, 2513, 2514, 2515, 2516, 2517, 2518, 2519, 2520, 2521, 2522, 2523, 2524, 2525, 2526, 2527, 2528, 2529, 2530, 2531, 2532, 2533, 2534, 2535, 2536, 2537, 2538, 2539, 2542, 2543, 2544, 2545, 2546, 2547, 2548, 2549].filterMap (fun i => lw_tbl[i]?) := by decide +kernel
  rw [h] at hw
  obtain ⟨i, -, hi⟩ := List.mem_filterMap.mp hw
  exact List.mem_of_getElem? hi
theorem gs_str {s : State} {args : Array Value} (hs : ∀ c ∈ nf_, c.before args s = true) : ∃ adK adV : Nat → Nat, vk_S 18 klen kbyt adK adV (fun q => s.heap.size ≤ q) s s.heap ∧ ∀ i : Nat, i < 18 → (stm i).eval args s none [] s = some (.ref (adK i)) := by
  refine vk_Sof (tm := stm) ?_ ?_ ?_ ?_ ?_ ?_ ?_ (fun a h => Nat.not_le.mpr h)
  · intro i hi
    have h : ∀ i : Fin 18, klen.getD i.val 0 < 2 ^ 31 := by decide +kernel
    exact h ⟨i, hi⟩
  · exact fun i hi => hs _ (nf1_in _ (List.mem_map.mpr ⟨i, List.mem_range.mpr hi, rfl⟩))
  · exact fun i hi => hs _ (nf2_in _ (List.mem_map.mpr ⟨i, List.mem_range.mpr hi, rfl⟩))
  · exact fun i hi => hs _ (nf3_in _ (List.mem_map.mpr ⟨i, List.mem_range.mpr hi, rfl⟩))
  · exact fun i hi => hs _ (nf4_in _ (List.mem_map.mpr ⟨i, List.mem_range.mpr hi, rfl⟩))
  · exact fun i hi j hj => hs _ (nf5_in _ (List.mem_flatMap.mpr ⟨i, List.mem_range.mpr hi, List.mem_map.mpr ⟨j, List.mem_range.mpr hj, rfl⟩⟩))
  · intro i j hi hj hij
    rcases nfP_all ⟨i, hi⟩ ⟨j, hj⟩ (fun e => hij (congrArg Fin.val e)) with h | h
    · exact Or.inl (hs _ (nf6_in _ (List.mem_map.mpr ⟨_, h, rfl⟩)))
    · exact Or.inr (hs _ (nf6_in _ (List.mem_map.mpr ⟨_, h, rfl⟩)))
theorem gs_cls {s : State} {args : Array Value} (hts : ∀ w ∈ lw_all, w.before args s = true) : ∃ (dC : Nat → ClassId) (dI : Nat → Nat → Nat), ∀ (k : Nat) (q : vw_C), wcl[k]? = some q → u_Kn s q.1 q.2.1 q.2.2 (dC k) (dI k) := by
  obtain ⟨c0, i0, h0⟩ := u_known (C := RX1) (T := TX1) (N := 39) (n := 39) hts in_X1 (hts _ q154)
  obtain ⟨c1, i1, h1⟩ := u_known (C := RX2) (T := TX2) (N := 9) (n := 9) hts in_X2 (hts _ q162)
  obtain ⟨c2, i2, h2⟩ := u_known (C := RX3) (T := TX3) (N := 4) (n := 4) hts in_X3 (hts _ q203)
  obtain ⟨c3, i3, h3⟩ := u_known (C := RX4) (T := TX4) (N := 2) (n := 2) hts in_X4 (hts _ q226)
  obtain ⟨c4, i4, h4⟩ := u_known (C := RJ2) (T := TJ2) (N := 3) (n := 3) hts in_J2 (hts _ q240)
  obtain ⟨c5, i5, h5⟩ := u_known (C := RX16) (T := TX16) (N := 6) (n := 6) hts in_X16 (hts _ q1154)
  obtain ⟨c6, i6, h6⟩ := u_known (C := RX17) (T := TX17) (N := 4) (n := 4) hts in_X17 (hts _ q607)
  obtain ⟨c7, i7, h7⟩ := u_known (C := RX18) (T := TX18) (N := 2) (n := 2) hts in_X18 (hts _ q615)
  obtain ⟨c8, i8, h8⟩ := u_known (C := RX20) (T := TX20) (N := 3) (n := 3) hts in_X20 (hts _ q1536)
  obtain ⟨c9, i9, h9⟩ := u_known (C := RX21) (T := TX21) (N := 2) (n := 2) hts in_X21 (hts _ q1577)
  obtain ⟨c10, i10, h10⟩ := u_known (C := RX5) (T := TX5) (N := 12) (n := 12) hts in_X5 (hts _ q268)
  obtain ⟨c11, i11, h11⟩ := u_known (C := RX19) (T := TX19) (N := 10) (n := 10) hts in_X19 (hts _ q1306)
  obtain ⟨c12, i12, h12⟩ := u_known (C := RX10) (T := TX10) (N := 107) (n := 107) hts in_X10 (hts _ q1676)
  obtain ⟨c13, i13, h13⟩ := u_known (C := RX9) (T := TX9) (N := 1) (n := 1) hts in_X9 (hts _ q288)
  obtain ⟨c14, i14, h14⟩ := u_known (C := RX8) (T := TX8) (N := 1) (n := 1) hts in_X8 (hts _ q278)
  obtain ⟨c15, i15, h15⟩ := u_known (C := RX7) (T := TX7) (N := 3) (n := 3) hts in_X7 (hts _ q276)
  obtain ⟨c16, i16, h16⟩ := u_known (C := RX14) (T := TX14) (N := 2) (n := 2) hts in_X14 (hts _ q1123)
  obtain ⟨c17, i17, h17⟩ := u_known (C := RX15) (T := TX15) (N := 2) (n := 2) hts in_X15 (hts _ q1132)
  obtain ⟨c18, i18, h18⟩ := u_known (C := RX12) (T := TX12) (N := 3) (n := 3) hts in_X12 (hts _ q1091)
  obtain ⟨c19, i19, h19⟩ := u_known (C := RX13) (T := TX13) (N := 3) (n := 3) hts in_X13 (hts _ q1107)
  refine ⟨fun k => [c0, c1, c2, c3, c4, c5, c6, c7, c8, c9, c10, c11, c12, c13, c14, c15, c16, c17, c18, c19].getD k 0, fun k => [i0, i1, i2, i3, i4, i5, i6, i7, i8, i9, i10, i11, i12, i13, i14, i15, i16, i17, i18, i19].getD k (fun _ => 0), ?_⟩
  intro k q hq
  match k, hq with
  | 0, hq => cases hq; exact h0
  | 1, hq => cases hq; exact h1
  | 2, hq => cases hq; exact h2
  | 3, hq => cases hq; exact h3
  | 4, hq => cases hq; exact h4
  | 5, hq => cases hq; exact h5
  | 6, hq => cases hq; exact h6
  | 7, hq => cases hq; exact h7
  | 8, hq => cases hq; exact h8
  | 9, hq => cases hq; exact h9
  | 10, hq => cases hq; exact h10
  | 11, hq => cases hq; exact h11
  | 12, hq => cases hq; exact h12
  | 13, hq => cases hq; exact h13
  | 14, hq => cases hq; exact h14
  | 15, hq => cases hq; exact h15
  | 16, hq => cases hq; exact h16
  | 17, hq => cases hq; exact h17
  | 18, hq => cases hq; exact h18
  | 19, hq => cases hq; exact h19
  | k + 20, hq => simp [wcl] at hq
theorem ar_of {s : State} {args : Array Value} {t : FieldType} (h : (Cond.arrayClass t).before args s = true) : ∃ c : ClassId, ArrOfT s c t ∧ s.vm.findClass ("[" ++ t.toString) = some c := by
  obtain ⟨c, k, comp, h1, h2, h3⟩ := Cond.arrayClass_spec h
  exact ⟨c, fun n z => ⟨(fun k h => by cases h), k, h2, comp, h3⟩, h1⟩
theorem ar_ofA {s : State} {args : Array Value} {t : FieldType} (h : (Cond.arrayOver (.array t)).before args s = true) : ∃ c : ClassId, ArrOfT s c (.array t) ∧ s.vm.findClass ("[" ++ (FieldType.array t).toString) = some c := by
  obtain ⟨comp, c, k, h0, h2, h3, h1⟩ := Cond.arrayOver_specA h
  exact ⟨c, fun n z => ⟨(fun k h => by cases h), k, h2, comp, h3⟩, h1⟩
theorem ar_ofO {s : State} {args : Array Value} {n : String} (h : (Cond.arrayOver (.object n)).before args s = true) : ∃ c : ClassId, ArrOfT s c (.object n) ∧ va_RA s c (.object n) := by
  obtain ⟨comp, c, k, h0, -, h2, h3, h1⟩ := Cond.arrayOver_spec h
  exact ⟨c, fun n z => ⟨(fun k h => by cases h), k, h2, comp, h3⟩, k, comp, h2, h3, h0, h1⟩
theorem gs_len {s : State} {args : Array Value} {t : Term} {a : Nat} {cell : Cell} {ty : FieldType} (h1 : t.eval args s none [] s = some (.ref a)) (h2 : s.heap[a]? = some cell) (h3 : (Term.length t).eval args s none [] s = some (.int 0)) (h4 : (Cond.arrayOf t ty).before args s = true) : cell.slots.size.toInt32 = 0 := by
  have hz : ∃ tt, t.eval args s none [] s = some (.ref tt) ∧ va_T ty tt 0 (fun _ => .null) (fun _ => False) s s.heap := va_Tof (N := 0) (by decide) h4 h3 (fun j hj => by omega) (fun _ _ h => h)
  obtain ⟨tt, e1, cc, e2, e3, e4, e5, e6, -⟩ := hz
  cases Option.some.inj (e1.symm.trans h1)
  cases Option.some.inj (e2.symm.trans h2)
  exact e6
set_option maxHeartbeats 4000000 in
theorem gs_start {p : Program} {s : State} {m : MethodId} {meth : Method} {c : Code} {b N : Nat} {xs : Nat → Int32} (C0 : lw_At p s m meth c b N xs) : ∃ g : wg_T, gm g = true ∧ gz g = s.heap.size ∧ gs g s s.heap := by
  obtain ⟨hx, hb, hr, hml, hown, hts0, hX, hbl, hlocks, hgv⟩ := id C0
  have hts : ∀ w ∈ lw_all, w.before #[Value.ref b] s = true := fun w h => hts0 w (lw_all_tbl h)
  have hs : ∀ c ∈ nf_, c.before #[Value.ref b] s = true := flat_of_before _ hgv
  obtain ⟨adK, adV, hS, hR⟩ := gs_str hs
  obtain ⟨dC, dI, hK⟩ := gs_cls hts
  obtain ⟨a0, A0, B0⟩ := ar_of (t := .int) (hts _ q201)
  obtain ⟨a1, A1, B1⟩ := ar_of (t := .byte) (hts _ q200)
  obtain ⟨a2, A2, B2⟩ := ar_of (t := .boolean) (hts _ q224)
  obtain ⟨a3, A3, B3⟩ := ar_of (t := .long) (hts _ q2508)
  obtain ⟨a4, A4, B4⟩ := ar_ofA (t := .int) (hts0 _ q274)
  obtain ⟨a5, A5, B5⟩ := ar_ofA (t := .boolean) (hts0 _ q266)
  obtain ⟨a6, A6, B6⟩ := ar_ofO (n := "java/lang/Object") (hts0 _ q690)
  have hA : ∀ a : Nat, a < s.heap.size → ¬ (fun q : Nat => s.heap.size ≤ q) a := fun a h => Nat.not_le.mpr h
  obtain ⟨ed, ec, cell, ek, e1, e2, e3, e4, e5, e6, -⟩ := Cond.exactly_spec (hs (Cond.exactly (Term.static "java/util/ArrayList" "DEFAULTCAPACITY_EMPTY_ELEMENTDATA" "[Ljava/lang/Object;") "[Ljava/lang/Object;") (nf_at (i := 6) (by decide +kernel)))
  have e7 : (Term.length (Term.static "java/util/ArrayList" "DEFAULTCAPACITY_EMPTY_ELEMENTDATA" "[Ljava/lang/Object;")).eval #[Value.ref b] s none [] s = some (.int 0) := va_eqt (hs (Cond.eq (Term.length (Term.static "java/util/ArrayList" "DEFAULTCAPACITY_EMPTY_ELEMENTDATA" "[Ljava/lang/Object;")) (Term.int 0)) (nf_at (i := 7) (by decide +kernel)))
  have e8 : cell.slots.size.toInt32 = 0 := gs_len e1 e3 e7 (hs (Cond.arrayOf (Term.static "java/util/ArrayList" "DEFAULTCAPACITY_EMPTY_ELEMENTDATA" "[Ljava/lang/Object;") (ClassFile.FieldType.object "java/lang/Object")) (nf_at (i := 5) (by decide +kernel)))
  have e9 : cell.cls = a6 := by
    obtain ⟨-, -, -, -, -, h3⟩ := B6
    rw [e6]; exact Option.some.inj (e2.symm.trans h3)
  have hFw : ∀ i : Nat, i < 7 → va_Fw (fmC i) fmX (fmY i) s := by
    intro i hi
    match i, hi with
    | 0, _ => exact va_Fw.of (hts0 _ q1424) (hts0 _ q1423) (hts0 _ q1457) (hts0 _ q1455) (hts0 _ q1453)
    | 1, _ => exact va_Fw.of (hts0 _ q1424) (hts0 _ q1423) (hts0 _ q1451) (hts0 _ q1449) (hts0 _ q1447)
    | 2, _ => exact va_Fw.of (hts0 _ q1424) (hts0 _ q1423) (hts0 _ q1429) (hts0 _ q1461) (hts0 _ q1459)
    | 3, _ => exact va_Fw.of (hts0 _ q1424) (hts0 _ q1423) (hts0 _ q1429) (hts0 _ q1443) (hts0 _ q1441)
    | 4, _ => exact va_Fw.of (hts0 _ q1424) (hts0 _ q1423) (hts0 _ q1429) (hts0 _ q1446) (hts0 _ q1444)
    | 5, _ => exact va_Fw.of (hts0 _ q1424) (hts0 _ q1423) (hts0 _ q1429) (hts0 _ q1427) (hts0 _ q1425)
    | 6, _ => exact va_Fw.of (hts0 _ q1424) (hts0 _ q1423) (hts0 _ q1437) (hts0 _ q1435) (hts0 _ q1433)
    | i + 7, hi => omega
  refine ⟨((dC, dI), fun i => [a0, a1, a2, a3, a4, a5, a6].getD i 0, ed, s.heap.size, adK, adV, true), rfl, rfl, ⟨⟨hK, ?_⟩, fun w hw => va_any (xw_on w (List.all_eq_true.mp xw_ok w hw)) (hts0 w (xw_tbl w hw)), hS, ?_, va_Zof (hts0 _ q252) (hts _ q117) e1 hA, ⟨cell, e3, e5, e9, e8, hA ed (Array.getElem?_eq_some_iff.mp e3).1⟩, va_Zof (hts0 _ q999) (hts _ q129) (va_eqt (hs (Cond.eq (Term.static "java/lang/String" "COMPACT_STRINGS" "Z") (Term.int 1)) (nf_at (i := 10) (by decide +kernel)))) hA, va_Zqof (hts0 _ q1019) (hts _ q132) (hs (Cond.isRef (Term.static "jdk/internal/util/Preconditions" "SIOOBE_FORMATTER" "Ljava/util/function/BiFunction;")) (nf_at (i := 11) (by decide +kernel))) hA, vx_Zqof (hts0 _ q755) (hts _ q124) (hs (Cond.isRef (Term.static "java/lang/Throwable" "UNASSIGNED_STACK" "[Ljava/lang/StackTraceElement;")) (nf_at (i := 8) (by decide +kernel))) hA, vx_Zqof (hts0 _ q757) (hts _ q124) (hs (Cond.isRef (Term.static "java/lang/Throwable" "SUPPRESSED_SENTINEL" "Ljava/util/List;")) (nf_at (i := 9) (by decide +kernel))) hA, va_AO.of (hts0 _ q690), (hts0 _ q274), hFw, (hts0 _ q266), va_Mi.of (hs (Cond.isRef (Term.mirror "[Ljava/lang/Object;")) (nf_at (i := 139) (by decide +kernel))), ?_⟩⟩
  · intro k q hq
    match k, hq with
    | 0, hq => cases hq; exact ⟨A0, B0⟩
    | 1, hq => cases hq; exact ⟨A1, B1⟩
    | 2, hq => cases hq; exact ⟨A2, B2⟩
    | 3, hq => cases hq; exact ⟨A3, B3⟩
    | 4, hq => cases hq; exact ⟨A4, B4⟩
    | 5, hq => cases hq; exact ⟨A5, B5⟩
    | 6, hq => cases hq; exact ⟨A6, B6⟩
    | k + 7, hq => simp [wty] at hq
  · intro i hi
    refine vk_R.of (A := #[Value.ref b]) ?_ (hR i hi)
    match i, hi with
    | 0, _ => exact (hts0 _ q1047)
    | 1, _ => exact (hts0 _ q1048)
    | 2, _ => exact (hts0 _ q1049)
    | 3, _ => exact (hts0 _ q1050)
    | 4, _ => exact (hts0 _ q1078)
    | 5, _ => exact (hts0 _ q1079)
    | 6, _ => exact (hts0 _ q1080)
    | 7, _ => exact (hts0 _ q1081)
    | 8, _ => exact (hts0 _ q1082)
    | 9, _ => exact (hts0 _ q985)
    | 10, _ => exact (hts0 _ q1058)
    | 11, _ => exact (hts0 _ q1059)
    | 12, _ => exact (hts0 _ q1060)
    | 13, _ => exact (hts0 _ q1061)
    | 14, _ => exact (hts0 _ q1062)
    | 15, _ => exact (hts0 _ q1083)
    | 16, _ => exact (hts0 _ q1084)
    | 17, _ => exact (hts0 _ q1085)
    | i + 18, hi => omega
  · intro i j hi hj hij
    exact va_Nc.of (hs _ (nf7_in _ (List.mem_map.mpr ⟨_, nfE_all ⟨i, hi⟩ ⟨j, hj⟩ (fun e => hij (congrArg Fin.val e)), rfl⟩)))
