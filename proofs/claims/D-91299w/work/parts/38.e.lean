set_option maxRecDepth 100000
theorem hd_J8_length : yJ8_length.cls = RJ8 ∧ yJ8_length.cls ≠ "java/lang/invoke/MethodHandle" ∧ yJ8_length.cls ≠ "java/lang/invoke/VarHandle" ∧ (parseMethodDescriptor yJ8_length.desc).map (fun d => d.parameters.length) = some 0 := by decide +kernel
theorem hd_J8_charAt : yJ8_charAt.cls = RJ8 ∧ yJ8_charAt.cls ≠ "java/lang/invoke/MethodHandle" ∧ yJ8_charAt.cls ≠ "java/lang/invoke/VarHandle" ∧ (parseMethodDescriptor yJ8_charAt.desc).map (fun d => d.parameters.length) = some 1 := by decide +kernel
theorem hd_J8_coder : yJ8_coder.cls = RJ8 ∧ yJ8_coder.cls ≠ "java/lang/invoke/MethodHandle" ∧ yJ8_coder.cls ≠ "java/lang/invoke/VarHandle" ∧ (parseMethodDescriptor yJ8_coder.desc).map (fun d => d.parameters.length) = some 0 := by decide +kernel
theorem hd_J8_isLatin1 : yJ8_isLatin1.cls = RJ8 ∧ yJ8_isLatin1.cls ≠ "java/lang/invoke/MethodHandle" ∧ yJ8_isLatin1.cls ≠ "java/lang/invoke/VarHandle" ∧ (parseMethodDescriptor yJ8_isLatin1.desc).map (fun d => d.parameters.length) = some 0 := by decide +kernel
theorem hd_J8_checkIndex : yJ8_checkIndex.cls = RJ8 ∧ yJ8_checkIndex.cls ≠ "java/lang/invoke/MethodHandle" ∧ yJ8_checkIndex.cls ≠ "java/lang/invoke/VarHandle" ∧ (parseMethodDescriptor yJ8_checkIndex.desc).map (fun d => d.parameters.length) = some 2 := by decide +kernel
theorem hd_J14_charAt : yJ14_charAt.cls = RJ14 ∧ yJ14_charAt.cls ≠ "java/lang/invoke/MethodHandle" ∧ yJ14_charAt.cls ≠ "java/lang/invoke/VarHandle" ∧ (parseMethodDescriptor yJ14_charAt.desc).map (fun d => d.parameters.length) = some 2 := by decide +kernel
theorem we_n {p : Program} {l : Launch} {e : Env} {R : Room} {s : State} {m : MethodId} {args : Array Value} {below : List Frame} {meth : Method} {c : Code} {H : Heap} {locs : List Loc} {cells slots : Nat} {cc : ByteArray} {pc : Nat} {ls : Array Slot} {g : wg_T} {L : ly_T} {σ σ_ : st_T} {mc ms : Nat} {v r_ : Int32} {ty : FieldType} (hexec : p.tables.exec = Jvm.exec) (hb : c.code = cc) (hr : meth.sig.returnType = some ty) (hlocks : meth.locks = false) (hW : wv g L σ s H locs) (hn : narrow ty (.int v) = .int v) (e1 : r_ = v) (e2 : σ_ = σ) (hc : cells ≤ mc) (hs : slots ≤ ms) (hdg : decode cc pc = .ok (.ireturn, 1)) :
    W p l e R s m args below meth c H locs cells slots (MQ below (wQi g L r_ σ_) args s mc ms (fun q => gz g ≤ q)) (F0 m pc ls [.int v]) := by
  subst e1 e2
  exact W.widen hc hs (W.zret hexec hb hr hn (fun t ht hW' => ⟨⟨_, (), rfl, rfl, hW.end ht⟩, hW.F ht⟩) hW.locs hdg hlocks)
theorem wv.str {g : wg_T} {L : ly_T} {σ : st_T} {s : State} {H : Heap} {locs : List Loc} (hW : wv g L σ s H locs) {i : Nat} (hi : i < 18) : va_O "java/lang/String" (gk g i) (fun q => gz g ≤ q) s s.heap ∧ va_OF "java/lang/String" "coder" "B" (.int 0) (gk g i) (fun q => gz g ≤ q) s s.heap ∧ va_OF "java/lang/String" "value" "[B" (.ref (gv g i)) (gk g i) (fun q => gz g ≤ q) s s.heap ∧ va_T .byte (gv g i) (klen.getD i 0) (fun j => .int ((kbyt.getD i []).getD j 0)) (fun q => gz g ≤ q) s s.heap := hW.1.2.2.1.1 i hi
theorem ww_preStr {g : wg_T} {L : ly_T} {σ : st_T} {s : State} {H : Heap} {locs : List Loc} {As : List Value} (hW : wv g L σ s H locs) {i : Nat} (hi : i < 18) : PreV s H "java/lang/String" (gk g i) (va_Pc (.ref (gk g i) :: As) (wd g L σ)) As := by
  obtain ⟨cell, h1, h2, h3, h4⟩ := (hW.str hi).1.kept hW.2.2.1.2.1
  exact ⟨wd.blind, ⟨cell, h1, h2, h3⟩, fun _ hU hW' => ⟨rfl, hW.pre hU hW'⟩⟩
theorem c_J8_coder (g : wg_T) (l : Launch) (L : ly_T) (σ : st_T) (i : Nat) (hi : i < 18) : CI g l yJ8_coder (ws_ yJ8_coder cJ8_coder 1 (some .byte)) 2 60 0 0 [.ref (gk g i)] L σ 0 σ := by
  refine wbody.met (by decide) (Nat.le_of_ble_eq_true rfl) ?_
  intro p e s m args below meth c ls hx hb hr' hml hlocks hts hown hnm hW hl
  have hown : s.vm.findClass RJ8 = some m.cls := hown
  have hl : lv_has ls 1 [(0, .ref (gk g i))] := hl
  refine va_gets hx hb hW.1.2.2.2.2.2.2.1 hW.2.2.1 hown (hts _ q998) (fun _ h => h) dJ8_coder_0 ?_
  refine lv_if_eq (tgt := 13) hx hb dJ8_coder_3 (by decide) (fun h => absurd h (by decide)) (fun _ => ?_)
  refine lv_aload_n hx hb dJ8_coder_6 rfl (lv_at hl 0 rfl) ?_
  refine vk_getf hx hb (hW.str hi).2.1 hW.2.2.1 hown (hts _ q2551) (fun _ h => h) dJ8_coder_7 ?_
  refine lv_goto (tgt := 14) hx hb dJ8_coder_10 (by decide) ?_
  exact we_n hx hb hr' hlocks hW rfl rfl rfl (Nat.le_refl _) (Nat.le_refl _) dJ8_coder_14
theorem c_J8_isLatin1 (g : wg_T) (l : Launch) (L : ly_T) (σ : st_T) (i : Nat) (hi : i < 18) : CI g l yJ8_isLatin1 (ws_ yJ8_isLatin1 cJ8_isLatin1 1 (some .boolean)) 2 60 0 0 [.ref (gk g i)] L σ 1 σ := by
  refine wbody.met (by decide) (Nat.le_of_ble_eq_true rfl) ?_
  intro p e s m args below meth c ls hx hb hr' hml hlocks hts hown hnm hW hl
  have hown : s.vm.findClass RJ8 = some m.cls := hown
  have hl : lv_has ls 1 [(0, .ref (gk g i))] := hl
  refine va_gets hx hb hW.1.2.2.2.2.2.2.1 hW.2.2.1 hown (hts _ q998) (fun _ h => h) dJ8_isLatin1_0 ?_
  refine lv_if_eq (tgt := 17) hx hb dJ8_isLatin1_3 (by decide) (fun h => absurd h (by decide)) (fun _ => ?_)
  refine lv_aload_n hx hb dJ8_isLatin1_6 rfl (lv_at hl 0 rfl) ?_
  refine vk_getf hx hb (hW.str hi).2.1 hW.2.2.1 hown (hts _ q2551) (fun _ h => h) dJ8_isLatin1_7 ?_
  refine lv_if_ne (tgt := 17) hx hb dJ8_isLatin1_10 (by decide) (fun h => absurd rfl h) (fun _ => ?_)
  refine lv_iconst (v := 1) hx hb dJ8_isLatin1_13 (by decide) ?_
  refine lv_goto (tgt := 18) hx hb dJ8_isLatin1_14 (by decide) ?_
  exact we_n hx hb hr' hlocks hW rfl rfl rfl (Nat.le_refl _) (Nat.le_refl _) dJ8_isLatin1_18
theorem c_J8_length (g : wg_T) (l : Launch) (L : ly_T) (σ : st_T) (i : Nat) (hi : i < 18) : CI g l yJ8_length (ws_ yJ8_length cJ8_length 1 (some .int)) 4 120 0 0 [.ref (gk g i)] L σ (Int32.ofNat (klen.getD i 0)) σ := by
  refine wbody.met (by decide) (Nat.le_of_ble_eq_true rfl) ?_
  intro p e s m args below meth c ls hx hb hr' hml hlocks hts hown hnm hW hl
  have hown : s.vm.findClass RJ8 = some m.cls := hown
  have hl : lv_has ls 1 [(0, .ref (gk g i))] := hl
  refine lv_aload_n hx hb dJ8_length_0 rfl (lv_at hl 0 rfl) ?_
  refine vk_getf hx hb (hW.str hi).2.2.1 hW.2.2.1 hown (hts _ q2550) (fun _ h => h) dJ8_length_1 ?_
  refine va_tlen hx hb (hW.str hi).2.2.2 hW.2.2.1 rfl dJ8_length_4 ?_
  refine lv_aload_n hx hb dJ8_length_5 rfl (lv_at hl 0 rfl) ?_
  refine ww_ci (va_runV (As := []) (rest := [.int (Int32.ofNat (klen.getD i 0))]) ⟨hx, hb, hml, hown, hts⟩ (c_J8_coder g l L σ i hi) (cwV 0 hts (lw_V q994 q995 q996 q129 q997) rfl rfl rfl hd_J8_coder ⟨(Nat.le_of_ble_eq_true rfl), (Nat.le_of_ble_eq_true rfl)⟩) (ww_preStr hW hi) rfl rfl hl.1 rfl (lv_room (Nat.le_of_ble_eq_true rfl)) dJ8_length_6 ⟨Nat.le_refl _, Nat.le_refl _⟩) hW (fun H locs hW => ?_)
  refine lv_ishr hx hb dJ8_length_9 ?_
  have h : ∀ i : Fin 18, Int32.ofNat (klen.getD i.val 0) >>> ((0 : Int32) &&& 31) = Int32.ofNat (klen.getD i.val 0) := by decide +kernel
  exact we_i hx hb hr' hlocks hW (h ⟨i, hi⟩).symm rfl (Nat.le_refl _) (Nat.le_refl _) dJ8_length_10
theorem c_J8_checkIndex (g : wg_T) (hgm : gm g = true) (l : Launch) (L : ly_T) (σ : st_T) (j n : Int32) (h0 : ¬ j < 0) (h1 : j < n) : CV g l yJ8_checkIndex (ws_ yJ8_checkIndex cJ8_checkIndex 2 none) 4 120 0 0 [.int j, .int n] L σ σ := by
  refine wbody.met (by decide) (Nat.le_of_ble_eq_true rfl) ?_
  intro p e s m args below meth c ls hx hb hr' hml hlocks hts hown hnm hW hl
  have hown : s.vm.findClass RJ8 = some m.cls := hown
  have hl : lv_has ls 2 [(0, .int j), (1, .int n)] := hl
  refine lv_iload_n hx hb dJ8_checkIndex_0 rfl (lv_at hl 0 rfl) ?_
  refine lv_iload_n hx hb dJ8_checkIndex_1 rfl (lv_at hl 1 rfl) ?_
  have key : ∀ q : Option Nat, W p l e (wrm 4 120 0 0) s m args below meth c s.heap [] 0 0 (MQ below (wQv g L σ) args s 0 0 (fun q => gz g ≤ q)) (F0 m 5 ls [va_rf q, .int n, .int j]) := fun q => by
    refine ww_ci (va_runS (As := [.int j, .int n, va_rf q]) (rest := []) ⟨hx, hb, hml, hown, hts⟩ (c_J11_checkIndex g hgm l L σ j n q h0 h1) (va_cwS 3 hts (lw_S q1020 q526 q132 q527) rfl rfl rfl hd_J11_checkIndex.2 ⟨(Nat.le_of_ble_eq_true rfl), (Nat.le_of_ble_eq_true rfl)⟩) (ww_preS hW) rfl rfl hl.1 rfl (lv_room (Nat.le_of_ble_eq_true rfl)) dJ8_checkIndex_5 ⟨Nat.le_refl _, Nat.le_refl _⟩) hW (fun H locs hW => ?_)
    refine lv_pop hx hb dJ8_checkIndex_8 rfl ?_
    exact we_v hx hb hr' hlocks hW rfl (Nat.le_refl _) (Nat.le_refl _) dJ8_checkIndex_9
  rcases hW.1.2.2.2.2.2.2.2.1 with h | ⟨t, h⟩
  · exact va_gets hx hb h hW.2.2.1 hown (hts _ q1018) (fun _ h => h) dJ8_checkIndex_2 (key none)
  · exact va_gets hx hb h hW.2.2.1 hown (hts _ q1018) (fun _ h => h) dJ8_checkIndex_2 (key (some t))
theorem chr_ok : ∀ i : Fin 18, ∀ j : Fin 10, j.val < klen.getD i.val 0 → ((((kbyt.getD i.val []).getD j.val 0) &&& 255 : Int32).toUInt32 % 65536).toInt32 = (kbyt.getD i.val []).getD j.val 0 ∧ (((kbyt.getD i.val []).getD j.val 0).toUInt32 % 65536).toInt32 = (kbyt.getD i.val []).getD j.val 0 := by decide +kernel
theorem chr_n {v : Int32} (h : (v.toUInt32 % 65536).toInt32 = v) : narrow .char (.int v) = .int v := by
  show Value.int _ = _
  exact congrArg Value.int h
theorem klen10 : ∀ i : Fin 18, klen.getD i.val 0 ≤ 10 := by decide +kernel
theorem c_J14_charAt (g : wg_T) (hgm : gm g = true) (l : Launch) (L : ly_T) (σ : st_T) (i : Nat) (hi : i < 18) (j : Int32) (h0 : ¬ j < 0) (h1 : j.toNatClampNeg < klen.getD i 0) : CI g l yJ14_charAt (ws_ yJ14_charAt cJ14_charAt 2 (some .char)) 6 180 0 0 [.ref (gv g i), .int j] L σ ((kbyt.getD i []).getD j.toNatClampNeg 0) σ := by
  refine wbody.met (by decide) (Nat.le_of_ble_eq_true rfl) ?_
  intro p e s m args below meth c ls hx hb hr' hml hlocks hts hown hnm hW hl
  have hown : s.vm.findClass RJ14 = some m.cls := hown
  have hl : lv_has ls 2 [(0, .ref (gv g i)), (1, .int j)] := hl
  have hk := klen10 ⟨i, hi⟩
  have hk : klen.getD i 0 ≤ 10 := hk
  have hj : j < Int32.ofNat (klen.getD i 0) := by
    rw [Int32.lt_iff_toInt_lt, i32n (by omega)]
    have h2 : ¬ j.toInt < 0 := fun z => h0 (by rw [Int32.lt_iff_toInt_lt, Int32.toInt_zero]; exact z)
    have h3 : j.toNatClampNeg = j.toInt.toNat := rfl
    omega
  refine lv_iload_n hx hb dJ14_charAt_0 rfl (lv_at hl 1 rfl) ?_
  refine lv_aload_n hx hb dJ14_charAt_1 rfl (lv_at hl 0 rfl) ?_
  refine va_tlen hx hb (hW.str hi).2.2.2 hW.2.2.1 rfl dJ14_charAt_2 ?_
  refine ww_cv (va_runS (As := [.int j, .int (Int32.ofNat (klen.getD i 0))]) (rest := []) ⟨hx, hb, hml, hown, hts⟩ (c_J8_checkIndex g hgm l L σ j (Int32.ofNat (klen.getD i 0)) h0 hj) (va_cwS 2 hts (lw_S q1015 q1016 q129 q1017) rfl rfl rfl hd_J8_checkIndex.2 ⟨(Nat.le_of_ble_eq_true rfl), (Nat.le_of_ble_eq_true rfl)⟩) (ww_preS hW) rfl rfl hl.1 rfl (lv_room (Nat.le_of_ble_eq_true rfl)) dJ14_charAt_3 ⟨Nat.le_refl _, Nat.le_refl _⟩) hW (fun H locs hW => ?_)
  refine lv_aload_n hx hb dJ14_charAt_6 rfl (lv_at hl 0 rfl) ?_
  refine lv_iload_n hx hb dJ14_charAt_7 rfl (lv_at hl 1 rfl) ?_
  refine va_tb hx hb (hW.str hi).2.2.2 hW.2.2.1 (fun z => z.elim h0 (fun z => absurd h1 (Nat.not_lt.mpr z))) rfl dJ14_charAt_8 ?_
  refine lv_sipush (v := 255) hx hb dJ14_charAt_9 (by decide) ?_
  refine lv_iand hx hb dJ14_charAt_12 ?_
  refine lv_i2c hx hb dJ14_charAt_13 rfl ?_
  have hc := chr_ok ⟨i, hi⟩ ⟨j.toNatClampNeg, by omega⟩ h1
  rw [hc.1]
  exact we_n hx hb hr' hlocks hW (chr_n hc.2) rfl rfl (Nat.le_refl _) (Nat.le_refl _) dJ14_charAt_14
theorem c_J8_charAt (g : wg_T) (hgm : gm g = true) (l : Launch) (L : ly_T) (σ : st_T) (i : Nat) (hi : i < 18) (j : Int32) (h0 : ¬ j < 0) (h1 : j.toNatClampNeg < klen.getD i 0) : CI g l yJ8_charAt (ws_ yJ8_charAt cJ8_charAt 2 (some .char)) 8 240 0 0 [.ref (gk g i), .int j] L σ ((kbyt.getD i []).getD j.toNatClampNeg 0) σ := by
  refine wbody.met (by decide) (Nat.le_of_ble_eq_true rfl) ?_
  intro p e s m args below meth c ls hx hb hr' hml hlocks hts hown hnm hW hl
  have hown : s.vm.findClass RJ8 = some m.cls := hown
  have hl : lv_has ls 2 [(0, .ref (gk g i)), (1, .int j)] := hl
  refine lv_aload_n hx hb dJ8_charAt_0 rfl (lv_at hl 0 rfl) ?_
  refine ww_ci (va_runV (As := []) (rest := []) ⟨hx, hb, hml, hown, hts⟩ (c_J8_isLatin1 g l L σ i hi) (cwV 0 hts (lw_V q1008 q1009 q1010 q129 q1011) rfl rfl rfl hd_J8_isLatin1 ⟨(Nat.le_of_ble_eq_true rfl), (Nat.le_of_ble_eq_true rfl)⟩) (ww_preStr hW hi) rfl rfl hl.1 rfl (lv_room (Nat.le_of_ble_eq_true rfl)) dJ8_charAt_1 ⟨Nat.le_refl _, Nat.le_refl _⟩) hW (fun H locs hW => ?_)
  refine lv_if_eq (tgt := 16) hx hb dJ8_charAt_4 (by decide) (fun h => absurd h (by decide)) (fun _ => ?_)
  refine lv_aload_n hx hb dJ8_charAt_7 rfl (lv_at hl 0 rfl) ?_
  refine vk_getf hx hb (hW.str hi).2.2.1 hW.2.2.1 hown (hts _ q2550) (fun _ h => h) dJ8_charAt_8 ?_
  refine lv_iload_n hx hb dJ8_charAt_11 rfl (lv_at hl 1 rfl) ?_
  refine ww_ci (va_runS (As := [.ref (gv g i), .int j]) (rest := []) ⟨hx, hb, hml, hown, hts⟩ (c_J14_charAt g hgm l L σ i hi j h0 h1) (va_cwS 2 hts (lw_S q1012 q1013 q136 q1014) rfl rfl rfl hd_J14_charAt.2 ⟨(Nat.le_of_ble_eq_true rfl), (Nat.le_of_ble_eq_true rfl)⟩) (ww_preS hW) rfl rfl hl.1 rfl (lv_room (Nat.le_of_ble_eq_true rfl)) dJ8_charAt_12 ⟨Nat.le_refl _, Nat.le_refl _⟩) hW (fun H locs hW => ?_)
  have hn : narrow .char (.int ((kbyt.getD i []).getD j.toNatClampNeg 0)) = .int ((kbyt.getD i []).getD j.toNatClampNeg 0) := by
    have hk : klen.getD i 0 ≤ 10 := klen10 ⟨i, hi⟩
    exact chr_n (chr_ok ⟨i, hi⟩ ⟨j.toNatClampNeg, by omega⟩ h1).2
  exact we_n hx hb hr' hlocks hW hn rfl rfl (Nat.le_refl _) (Nat.le_refl _) dJ8_charAt_15
