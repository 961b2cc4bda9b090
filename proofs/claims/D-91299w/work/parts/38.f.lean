set_option maxRecDepth 100000
theorem hd_X5_eats : yX5_eats.cls = RX5 ∧ yX5_eats.cls ≠ "java/lang/invoke/MethodHandle" ∧ yX5_eats.cls ≠ "java/lang/invoke/VarHandle" ∧ (parseMethodDescriptor yX5_eats.desc).map (fun d => d.parameters.length) = some 1 := by decide +kernel
def m_X5_eats_L105 (i0 : Nat) (a1 : Nat) (σ : st_T) (x2 : Int32) (t1 : Int32) (t2 : Int32) : Option (Int32 × st_T) := if i0 < gN_ σ 87 then lt_ (sF_ σ 87 8 i0 (t1 + t2)) fun σ2 => if bz x2 then some (x2, σ2) else none else none
def m_X5_eats_L88 (i0 : Nat) (a1 : Nat) (σ : st_T) (x2 : Int32) : Option (Int32 × st_T) := if i0 < gN_ σ 87 then if x2 = 0 then (m_X5_eats_L105 i0 a1) σ x2 (gF_ σ 87 8 i0) (0 : Int32) else if a1 < 18 then (m_X5_eats_L105 i0 a1) σ x2 (gF_ σ 87 8 i0) (Int32.ofNat (klen.getD a1 0)) else none else none
def m_X5_eats_L81 (i0 : Nat) (a1 : Nat) (k29 : st_T → Int32 → Int32 → Option (Int32 × st_T)) (σ : st_T) (x3 : Int32) (t0 : Int32) : Option (Int32 × st_T) := k29 σ t0 (x3 + (1 : Int32))
def m_X5_eats_L80 (i0 : Nat) (a1 : Nat) (k81 : st_T → Int32 → Int32 → Option (Int32 × st_T)) (σ : st_T) (x3 : Int32) : Option (Int32 × st_T) := k81 σ x3 (0 : Int32)
def m_X5_eats_L29 (i0 : Nat) (a1 : Nat) : Nat → st_T → Int32 → Int32 → Option (Int32 × st_T)
  | 0, _, _, _ => none
  | n + 1, σ, x2, x3 => if a1 < 18 then if (Int32.ofNat (klen.getD a1 0)) ≤ x3 then (m_X5_eats_L88 i0 a1) σ x2 else if x2 = 0 then (m_X5_eats_L88 i0 a1) σ x2 else if i0 < gN_ σ 87 then if (gF_ σ 87 0 i0) ≤ ((gF_ σ 87 8 i0) + x3) then (m_X5_eats_L80 i0 a1 (m_X5_eats_L81 i0 a1 (m_X5_eats_L29 i0 a1 n))) σ x3 else if inb ((gF_ σ 87 8 i0) + x3) 400 then if ¬ x3 < 0 ∧ x3.toNatClampNeg < klen.getD a1 0 then if (gA_ σ 10 0 ((gF_ σ 87 8 i0) + x3).toNatClampNeg) = ((kbyt.getD a1 []).getD x3.toNatClampNeg 0) then (m_X5_eats_L81 i0 a1 (m_X5_eats_L29 i0 a1 n)) σ x3 (1 : Int32) else (m_X5_eats_L80 i0 a1 (m_X5_eats_L81 i0 a1 (m_X5_eats_L29 i0 a1 n))) σ x3 else none else none else none else none
def m_X5_eats_L26 (i0 : Nat) (a1 : Nat) (σ : st_T) (t0 : Int32) : Option (Int32 × st_T) := (m_X5_eats_L29 i0 a1 fu_) σ t0 (0 : Int32)
def m_X5_eats (σ : st_T) (i0 : Nat) (a1 : Nat) : Option (Int32 × st_T) := bn2_ (m_X5_now σ i0) fun v19 σ20 => if i0 < gN_ σ 87 then if i0 < gN_ σ20 87 then if a1 < 18 then (m_X5_isSmall σ20 i0 ((gF_ σ20 87 8 i0) + (Int32.ofNat (klen.getD a1 0)))).bind fun v26 => if v26 = 0 then (m_X5_eats_L26 i0 a1) σ20 (1 : Int32) else (m_X5_eats_L26 i0 a1) σ20 (0 : Int32) else none else none else none
set_option maxHeartbeats 4000000 in
theorem c_X5_eats (g : wg_T) (hgm : gm g = true) (l : Launch) (L : ly_T) (σ : st_T) (i0 : Nat) (a1 : Nat) (r_ : Int32) (σ_ : st_T) (hs : m_X5_eats σ i0 a1 = some (r_, σ_)) : CI g l yX5_eats (ws_ yX5_eats cX5_eats 4 (some .boolean)) 10 270 0 0 [.ref (L 87 i0), .ref (gk g a1)] L σ r_ σ_ := by
  refine wbody.met (by decide) (Nat.le_of_ble_eq_true rfl) ?_
  intro p e s m args below meth c ls hx hb hr hml hlocks hts hown hnm hW hl
  have hown : s.vm.findClass RX5 = some m.cls := hown
  have hl : lv_has ls 4 [(0, .ref (L 87 i0)), (1, .ref (gk g a1))] := hl
  unfold m_X5_eats at hs
  have hL26 : ∀ (σ : st_T) (t0 : Int32) (H : Heap) (locs : List Loc) (ls : Array Slot), wv g L σ s H locs → lv_has ls 4 [(0, .ref (L 87 i0)), (1, .ref (gk g a1))] → (m_X5_eats_L26 i0 a1) σ t0 = some (r_, σ_) → W p l e (wrm 10 270 0 0) s m args below meth c H locs 0 0 (MQ below (wQi g L r_ σ_) args s 0 0 (fun q => gz g ≤ q)) (F0 m 26 ls [.int t0]) := by
    have hL29 : ∀ (n29 : Nat), ∀ (σ : st_T) (x2 : Int32) (x3 : Int32) (H : Heap) (locs : List Loc) (ls : Array Slot), wv g L σ s H locs → lv_has ls 4 [(0, .ref (L 87 i0)), (1, .ref (gk g a1)), (2, .int x2), (3, .int x3)] → (m_X5_eats_L29 i0 a1 n29) σ x2 x3 = some (r_, σ_) → W p l e (wrm 10 270 0 0) s m args below meth c H locs 0 0 (MQ below (wQi g L r_ σ_) args s 0 0 (fun q => gz g ≤ q)) (F0 m 29 ls []) := by
      intro n29
      induction n29 with
      | zero => intro σ x2 x3 H locs ls hW hl hs; rw [m_X5_eats_L29] at hs; cases hs
      | succ n29 ih29 =>
        have hL88 : ∀ (σ : st_T) (x2 : Int32) (H : Heap) (locs : List Loc) (ls : Array Slot), wv g L σ s H locs → lv_has ls 4 [(0, .ref (L 87 i0)), (1, .ref (gk g a1)), (2, .int x2)] → (m_X5_eats_L88 i0 a1) σ x2 = some (r_, σ_) → W p l e (wrm 10 270 0 0) s m args below meth c H locs 0 0 (MQ below (wQi g L r_ σ_) args s 0 0 (fun q => gz g ≤ q)) (F0 m 88 ls []) := by
          have hL105 : ∀ (σ : st_T) (x2 : Int32) (t1 : Int32) (t2 : Int32) (H : Heap) (locs : List Loc) (ls : Array Slot), wv g L σ s H locs → lv_has ls 4 [(2, .int x2)] → (m_X5_eats_L105 i0 a1) σ x2 t1 t2 = some (r_, σ_) → W p l e (wrm 10 270 0 0) s m args below meth c H locs 0 0 (MQ below (wQi g L r_ σ_) args s 0 0 (fun q => gz g ≤ q)) (F0 m 105 ls [.int t2, .int t1, .ref (L 87 i0)]) := by
            intro σ x2 t1 t2 H locs ls hW hl hs
            unfold m_X5_eats_L105 at hs
            refine lv_iadd hx hb dX5_eats_105 ?_
            obtain ⟨hc1, hs⟩ := ww_chk hs
            obtain ⟨σ2, e3, hs⟩ := ww_let hs
            refine pf_X5_111 hx hb hts hown hW (pr_dy hc1 rfl rfl) dX5_eats_106 (fun H locs hW => ?_)
            have hW : wv g L σ2 s H locs := by rw [e3]; exact hW
            have hc4 : i0 < gN_ σ2 87 := by rw [e3]; exact hc1
            refine lv_iload_n hx hb dX5_eats_109 rfl (lv_at hl 0 rfl) ?_
            obtain ⟨hc5, hs⟩ := ww_chk hs
            have hs := ww_S hs
            exact we_z hx hb hr hlocks hW hc5 (congrArg Prod.fst hs) (congrArg Prod.snd hs) (Nat.le_of_ble_eq_true rfl) (Nat.le_of_ble_eq_true rfl) dX5_eats_110
          intro σ x2 H locs ls hW hl hs
          unfold m_X5_eats_L88 at hs
          refine lv_aload_n hx hb dX5_eats_88 rfl (lv_at hl 0 rfl) ?_
          refine lv_dup hx hb dX5_eats_89 rfl ?_
          obtain ⟨hc6, hs⟩ := ww_chk hs
          refine gf_X5_111 hx hb hts hown hW (pr_dy hc6 rfl rfl) dX5_eats_90 ?_
          refine lv_iload_n hx hb dX5_eats_93 rfl (lv_at hl 2 rfl) ?_
          refine lv_if_eq (tgt := 104) hx hb dX5_eats_94 (by decide) (fun hc7 => ?_) (fun hc7 => ?_)
          · have hs := ww_T hs hc7
            refine lv_iconst (v := 0) hx hb dX5_eats_104 (by decide) ?_
            exact hL105 σ x2 (gF_ σ 87 8 i0) (0 : Int32) _ _ ls hW (lv_sub hl [2] rfl) hs
          · have hs := ww_F hs hc7
            refine lv_aload_n hx hb dX5_eats_97 rfl (lv_at hl 1 rfl) ?_
            obtain ⟨hc8, hs⟩ := ww_chk hs
            refine ww_ci (va_runV (As := []) (rest := [.int (gF_ σ 87 8 i0), .ref (L 87 i0)]) ⟨hx, hb, hml, hown, hts⟩ (c_J8_length g l L σ a1 hc8) (cwV 0 hts (lw_V q990 q991 q992 q129 q993) rfl rfl rfl hd_J8_length ⟨(Nat.le_of_ble_eq_true rfl), (Nat.le_of_ble_eq_true rfl)⟩) (ww_preStr hW hc8) rfl rfl hl.1 rfl (lv_room (Nat.le_of_ble_eq_true rfl)) dX5_eats_98 ⟨Nat.zero_le _, Nat.zero_le _⟩) hW (fun H locs hW => ?_)
            refine lv_goto (tgt := 105) hx hb dX5_eats_101 (by decide) ?_
            exact hL105 σ x2 (gF_ σ 87 8 i0) (Int32.ofNat (klen.getD a1 0)) _ _ ls hW (lv_sub hl [2] rfl) hs
        have hL81 : ∀ (σ : st_T) (x3 : Int32) (t0 : Int32) (H : Heap) (locs : List Loc) (ls : Array Slot), wv g L σ s H locs → lv_has ls 4 [(0, .ref (L 87 i0)), (1, .ref (gk g a1)), (3, .int x3)] → (m_X5_eats_L81 i0 a1 (m_X5_eats_L29 i0 a1 n29)) σ x3 t0 = some (r_, σ_) → W p l e (wrm 10 270 0 0) s m args below meth c H locs 0 0 (MQ below (wQi g L r_ σ_) args s 0 0 (fun q => gz g ≤ q)) (F0 m 81 ls [.int t0]) := by
          intro σ x3 t0 H locs ls hW hl hs
          unfold m_X5_eats_L81 at hs
          refine lv_istore_n (lv' := [(2, .int t0), (0, .ref (L 87 i0)), (1, .ref (gk g a1)), (3, .int x3)]) hx hb dX5_eats_81 rfl hl (by decide) rfl (fun ls hl => ?_)
          refine lv_iinc (v := (x3 + (1 : Int32))) (lv' := [(3, .int (x3 + (1 : Int32))), (2, .int t0), (0, .ref (L 87 i0)), (1, .ref (gk g a1))]) hx hb dX5_eats_82 hl (k := 3) rfl rfl (by decide) rfl (fun ls hl => ?_)
          refine lv_goto (tgt := 29) hx hb dX5_eats_85 (by decide) ?_
          exact ih29 σ t0 (x3 + (1 : Int32)) _ _ ls hW (lv_sub hl [2, 3, 1, 0] rfl) hs
        have hL80 : ∀ (σ : st_T) (x3 : Int32) (H : Heap) (locs : List Loc) (ls : Array Slot), wv g L σ s H locs → lv_has ls 4 [(0, .ref (L 87 i0)), (1, .ref (gk g a1)), (3, .int x3)] → (m_X5_eats_L80 i0 a1 (m_X5_eats_L81 i0 a1 (m_X5_eats_L29 i0 a1 n29))) σ x3 = some (r_, σ_) → W p l e (wrm 10 270 0 0) s m args below meth c H locs 0 0 (MQ below (wQi g L r_ σ_) args s 0 0 (fun q => gz g ≤ q)) (F0 m 80 ls []) := by
          intro σ x3 H locs ls hW hl hs
          unfold m_X5_eats_L80 at hs
          refine lv_iconst (v := 0) hx hb dX5_eats_80 (by decide) ?_
          exact hL81 σ x3 (0 : Int32) _ _ ls hW (lv_sub hl [0, 1, 2] rfl) hs
        intro σ x2 x3 H locs ls hW hl hs
        rw [m_X5_eats_L29] at hs
        refine lv_iload_n hx hb dX5_eats_29 rfl (lv_at hl 3 rfl) ?_
        refine lv_aload_n hx hb dX5_eats_30 rfl (lv_at hl 1 rfl) ?_
        obtain ⟨hc9, hs⟩ := ww_chk hs
        refine ww_ci (va_runV (As := []) (rest := [.int x3]) ⟨hx, hb, hml, hown, hts⟩ (c_J8_length g l L σ a1 hc9) (cwV 0 hts (lw_V q990 q991 q992 q129 q993) rfl rfl rfl hd_J8_length ⟨(Nat.le_of_ble_eq_true rfl), (Nat.le_of_ble_eq_true rfl)⟩) (ww_preStr hW hc9) rfl rfl hl.1 rfl (lv_room (Nat.le_of_ble_eq_true rfl)) dX5_eats_31 ⟨Nat.zero_le _, Nat.zero_le _⟩) hW (fun H locs hW => ?_)
        refine lv_icmp_ge (tgt := 88) hx hb dX5_eats_34 (by decide) (fun hc10 => ?_) (fun hc10 => ?_)
        · have hs := ww_T hs hc10
          exact hL88 σ x2 _ _ ls hW (lv_sub hl [0, 1, 2] rfl) hs
        · have hs := ww_F hs hc10
          refine lv_iload_n hx hb dX5_eats_37 rfl (lv_at hl 2 rfl) ?_
          refine lv_if_eq (tgt := 88) hx hb dX5_eats_38 (by decide) (fun hc11 => ?_) (fun hc11 => ?_)
          · have hs := ww_T hs hc11
            exact hL88 σ x2 _ _ ls hW (lv_sub hl [0, 1, 2] rfl) hs
          · have hs := ww_F hs hc11
            refine lv_aload_n hx hb dX5_eats_41 rfl (lv_at hl 0 rfl) ?_
            obtain ⟨hc12, hs⟩ := ww_chk hs
            refine gf_X5_111 hx hb hts hown hW (pr_dy hc12 rfl rfl) dX5_eats_42 ?_
            refine lv_iload_n hx hb dX5_eats_45 rfl (lv_at hl 3 rfl) ?_
            refine lv_iadd hx hb dX5_eats_46 ?_
            refine lv_aload_n hx hb dX5_eats_47 rfl (lv_at hl 0 rfl) ?_
            refine gf_X5_54 hx hb hts hown hW (pr_dy hc12 rfl rfl) dX5_eats_48 ?_
            refine lv_icmp_ge (tgt := 80) hx hb dX5_eats_51 (by decide) (fun hc13 => ?_) (fun hc13 => ?_)
            · have hs := ww_T hs hc13
              exact hL80 σ x3 _ _ ls hW (lv_sub hl [0, 1, 3] rfl) hs
            · have hs := ww_F hs hc13
              refine lv_aload_n hx hb dX5_eats_54 rfl (lv_at hl 0 rfl) ?_
              refine gf_X5_3 hx hb hts hown hW (pr_dy hc12 rfl rfl) (hW.fl hgm (pr_dy hc12 rfl rfl) 11 (by decide) rfl (by decide)) dX5_eats_55 ?_
              refine gf_X5_148 hx hb hts hown hW (pr_st (hW.rd hgm) (Nat.le_of_ble_eq_true rfl)) (hW.fl hgm (pr_st (hW.rd hgm) (Nat.le_of_ble_eq_true rfl)) 0 (by decide) rfl (by decide)) dX5_eats_58 ?_
              refine lv_aload_n hx hb dX5_eats_61 rfl (lv_at hl 0 rfl) ?_
              refine gf_X5_111 hx hb hts hown hW (pr_dy hc12 rfl rfl) dX5_eats_62 ?_
              refine lv_iload_n hx hb dX5_eats_65 rfl (lv_at hl 3 rfl) ?_
              refine lv_iadd hx hb dX5_eats_66 ?_
              obtain ⟨hc14, hs⟩ := ww_chk hs
              refine ww_bald hx hb hW 10 0 (pr_st (hW.rd hgm) (Nat.le_of_ble_eq_true rfl)) rfl hc14 dX5_eats_67 ?_
              refine lv_aload_n hx hb dX5_eats_68 rfl (lv_at hl 1 rfl) ?_
              refine lv_iload_n hx hb dX5_eats_69 rfl (lv_at hl 3 rfl) ?_
              obtain ⟨hc15, hs⟩ := ww_chk hs
              refine ww_ci (va_runV (As := [.int x3]) (rest := [.int (gA_ σ 10 0 ((gF_ σ 87 8 i0) + x3).toNatClampNeg)]) ⟨hx, hb, hml, hown, hts⟩ (c_J8_charAt g hgm l L σ a1 hc9 x3 hc15.1 hc15.2) (cwV 1 hts (lw_V q1004 q1005 q1006 q129 q1007) rfl rfl rfl hd_J8_charAt ⟨(Nat.le_of_ble_eq_true rfl), (Nat.le_of_ble_eq_true rfl)⟩) (ww_preStr hW hc9) rfl rfl hl.1 rfl (lv_room (Nat.le_of_ble_eq_true rfl)) dX5_eats_70 ⟨Nat.zero_le _, Nat.zero_le _⟩) hW (fun H locs hW => ?_)
              refine lv_icmp_ne (tgt := 80) hx hb dX5_eats_73 (by decide) (fun hc16 => ?_) (fun hc16 => ?_)
              · have hs := ww_F hs hc16
                exact hL80 σ x3 _ _ ls hW (lv_sub hl [0, 1, 3] rfl) hs
              · have hs := ww_T hs hc16
                refine lv_iconst (v := 1) hx hb dX5_eats_76 (by decide) ?_
                refine lv_goto (tgt := 81) hx hb dX5_eats_77 (by decide) ?_
                exact hL81 σ x3 (1 : Int32) _ _ ls hW (lv_sub hl [0, 1, 3] rfl) hs
    intro σ t0 H locs ls hW hl hs
    unfold m_X5_eats_L26 at hs
    refine lv_istore_n (lv' := [(2, .int t0), (0, .ref (L 87 i0)), (1, .ref (gk g a1))]) hx hb dX5_eats_26 rfl hl (by decide) rfl (fun ls hl => ?_)
    refine lv_iconst (v := 0) hx hb dX5_eats_27 (by decide) ?_
    refine lv_istore_n (lv' := [(3, .int (0 : Int32)), (2, .int t0), (0, .ref (L 87 i0)), (1, .ref (gk g a1))]) hx hb dX5_eats_28 rfl hl (by decide) rfl (fun ls hl => ?_)
    exact hL29 fu_ σ t0 (0 : Int32) _ _ ls hW (lv_sub hl [2, 3, 1, 0] rfl) hs
  refine lv_aload_n hx hb dX5_eats_0 rfl (lv_at hl 0 rfl) ?_
  obtain ⟨v19, σ20, hc17, hs⟩ := ww_bn2 hs
  obtain ⟨hc21, hs⟩ := ww_chk hs
  refine ww_ci (va_runV (As := []) (rest := []) ⟨hx, hb, hml, hown, hts⟩ (c_X5_now g hgm l L σ i0 _ _ hc17) (cwV 0 hts (lw_V q958 q960 qs15 q118 q961) rfl rfl rfl hd_X5_now ⟨(Nat.le_of_ble_eq_true rfl), (Nat.le_of_ble_eq_true rfl)⟩) (ww_preV hW (pr_dy hc21 rfl rfl) (obv_0 rfl) rfl) rfl rfl hl.1 rfl (lv_room (Nat.le_of_ble_eq_true rfl)) dX5_eats_1 ⟨Nat.le_of_ble_eq_true rfl, Nat.le_of_ble_eq_true rfl⟩) hW (fun H locs hW => ?_)
  refine lv_pop hx hb dX5_eats_4 rfl ?_
  refine lv_aload_n hx hb dX5_eats_5 rfl (lv_at hl 0 rfl) ?_
  refine lv_aload_n hx hb dX5_eats_6 rfl (lv_at hl 0 rfl) ?_
  obtain ⟨hc22, hs⟩ := ww_chk hs
  refine gf_X5_111 hx hb hts hown hW (pr_dy hc22 rfl rfl) dX5_eats_7 ?_
  refine lv_aload_n hx hb dX5_eats_10 rfl (lv_at hl 1 rfl) ?_
  obtain ⟨hc23, hs⟩ := ww_chk hs
  refine ww_ci (va_runV (As := []) (rest := [.int (gF_ σ20 87 8 i0), .ref (L 87 i0)]) ⟨hx, hb, hml, hown, hts⟩ (c_J8_length g l L σ20 a1 hc23) (cwV 0 hts (lw_V q990 q991 q992 q129 q993) rfl rfl rfl hd_J8_length ⟨(Nat.le_of_ble_eq_true rfl), (Nat.le_of_ble_eq_true rfl)⟩) (ww_preStr hW hc23) rfl rfl hl.1 rfl (lv_room (Nat.le_of_ble_eq_true rfl)) dX5_eats_11 ⟨Nat.zero_le _, Nat.zero_le _⟩) hW (fun H locs hW => ?_)
  refine lv_iadd hx hb dX5_eats_14 ?_
  obtain ⟨v26, hc24, hs⟩ := ww_bnd hs
  refine ww_ci (va_runV (As := [.int ((gF_ σ20 87 8 i0) + (Int32.ofNat (klen.getD a1 0)))]) (rest := []) ⟨hx, hb, hml, hown, hts⟩ (c_X5_isSmall g hgm l L σ20 i0 ((gF_ σ20 87 8 i0) + (Int32.ofNat (klen.getD a1 0))) _ hc24) (cwV 1 hts (lw_V q1000 q1002 qs19 q118 q1003) rfl rfl rfl hd_X5_isSmall ⟨(Nat.le_of_ble_eq_true rfl), (Nat.le_of_ble_eq_true rfl)⟩) (ww_preV hW (pr_dy hc22 rfl rfl) (obv_0 rfl) rfl) rfl rfl hl.1 rfl (lv_room (Nat.le_of_ble_eq_true rfl)) dX5_eats_15 ⟨Nat.le_of_ble_eq_true rfl, Nat.le_of_ble_eq_true rfl⟩) hW (fun H locs hW => ?_)
  refine lv_if_ne (tgt := 25) hx hb dX5_eats_18 (by decide) (fun hc27 => ?_) (fun hc27 => ?_)
  · have hs := ww_F hs hc27
    refine lv_iconst (v := 0) hx hb dX5_eats_25 (by decide) ?_
    exact hL26 σ20 (0 : Int32) _ _ ls hW (lv_sub hl [0, 1] rfl) hs
  · have hs := ww_T hs hc27
    refine lv_iconst (v := 1) hx hb dX5_eats_21 (by decide) ?_
    refine lv_goto (tgt := 26) hx hb dX5_eats_22 (by decide) ?_
    exact hL26 σ20 (1 : Int32) _ _ ls hW (lv_sub hl [0, 1] rfl) hs
