set_option maxRecDepth 100000
theorem hd_X5_init : yX5_init.cls = RX5 ∧ yX5_init.cls ≠ "java/lang/invoke/MethodHandle" ∧ yX5_init.cls ≠ "java/lang/invoke/VarHandle" ∧ (parseMethodDescriptor yX5_init.desc).map (fun d => d.parameters.length) = some 2 := by decide +kernel
theorem hd_X1_init : yX1_init.cls = RX1 ∧ yX1_init.cls ≠ "java/lang/invoke/MethodHandle" ∧ yX1_init.cls ≠ "java/lang/invoke/VarHandle" ∧ (parseMethodDescriptor yX1_init.desc).map (fun d => d.parameters.length) = some 0 := by decide +kernel
noncomputable def m_X5_init_L86 (i0 : Nat) : Nat → st_T → Int32 → Option st_T
  | 0, _, _ => none
  | n + 1, σ, x3 => if (4 : Int32) ≤ x3 then some σ else if i0 < gN_ σ 87 then if ¬ gP_ σ 87 (200 + 1) i0 = 0 then if i0 < gN_ σ 88 then if inb x3 4 then lt_ (sE_ σ 89 (4 * i0 + x3.toNatClampNeg) (0 : Int32).toNatClampNeg (10 : Int32)) fun σ6 => if ¬ gP_ σ6 87 (200 + 2) i0 = 0 then if i0 < gN_ σ6 90 then lt_ (sE_ σ6 90 i0 x3.toNatClampNeg (1 : Int32)) fun σ12 => (m_X5_init_L86 i0 n) σ12 (x3 + (1 : Int32)) else none else none else none else none else none else none
noncomputable def m_X5_init (σ : st_T) (i0 : Nat) (a2 : Int32) : Option st_T := if i0 < gN_ σ 87 then if 0 < gN_ σ 1 then lt_ (sM_ σ 87 11 i0 0) fun σ19 => lt_ (nM_ σ19 88 89 4 12) fun σ24 => ck1_ σ24 (if (gN_ σ19 88) = i0 then lt_ (sM_ σ24 87 1 i0 0) fun σ30 => lt_ (nA_ σ30 90 4) fun σ36 => ck1_ σ36 (if (gN_ σ30 90) = i0 then lt_ (sM_ σ36 87 2 i0 0) fun σ43 => lt_ (sF_ σ43 87 3 i0 (1 : Int32)) fun σ49 => lt_ (sF_ σ49 87 4 i0 (100 : Int32)) fun σ55 => lt_ (sF_ σ55 87 5 i0 (50 : Int32)) fun σ61 => lt_ (sF_ σ61 87 6 i0 (100 : Int32)) fun σ67 => lt_ (nO_ σ67 91 2 3) fun σ74 => ck1_ σ74 (lt_ (nO_ σ74 91 1 1) fun σ83 => ck1_ σ83 ((m_X8_init σ83 (gN_ σ74 91) (1 : Int32)).bind fun σ93 => pif_ (kp_ σ83 σ93) (lt_ (nO_ σ93 91 0 1) fun σ103 => ck1_ σ103 ((m_X9_init σ103 (gN_ σ93 91) (2 : Int32)).bind fun σ114 => pif_ (kp_ σ103 σ114) ((m_X7_init σ114 (gN_ σ67 91) (47 : Int32) (gN_ σ74 91) (gN_ σ93 91)).bind fun σ124 => pif_ (kp_ σ114 σ124) (lt_ (sM_ σ124 87 7 i0 (gN_ σ67 91)) fun σ132 => lt_ (sF_ σ132 87 0 i0 a2) fun σ141 => (m_X5_init_L86 i0 fu_) σ141 (0 : Int32))))))) else none) else none) else none else none
noncomputable def m_X1_init_L298 : Nat → st_T → Int32 → Option st_T
  | 0, _, _ => none
  | n + 1, σ, x1 => if (64 : Int32) ≤ x1 then some σ else if 0 < gN_ σ 1 then if ¬ gP_ σ 1 (200 + 16) 0 = 0 then if 0 < gN_ σ 26 then if inb x1 64 then lt_ (sE_ σ 26 0 x1.toNatClampNeg (1 : Int32)) fun σ6 => (m_X1_init_L298 n) σ6 (x1 + (1 : Int32)) else none else none else none else none
noncomputable def m_X1_init (σ : st_T)  : Option st_T := if 0 < gN_ σ 1 then lt_ (nA_ σ 10 400) fun σ12 => ck1_ σ12 (if (gN_ σ 10) = 0 then lt_ (sM_ σ12 1 0 0 0) fun σ17 => lt_ (nO_ σ17 50 0 9) fun σ22 => ck1_ σ22 ((m_X2_init σ22 (gN_ σ17 50)).bind fun σ29 => if cu_ σ22 ≤ cu_ σ29 ∧ su_ σ22 ≤ su_ σ29 then ck1_ σ29 (if (gN_ σ17 50) = 0 then lt_ (sM_ σ29 1 1 0 0) fun σ37 => lt_ (nO_ σ37 50 0 9) fun σ43 => ck1_ σ43 ((m_X2_init σ43 (gN_ σ37 50)).bind fun σ51 => if cu_ σ43 ≤ cu_ σ51 ∧ su_ σ43 ≤ su_ σ51 then ck1_ σ51 (if (gN_ σ37 50) = 1 then lt_ (sM_ σ51 1 2 0 0) fun σ60 => lt_ (nO_ σ60 50 0 9) fun σ67 => ck1_ σ67 ((m_X2_init σ67 (gN_ σ60 50)).bind fun σ76 => if cu_ σ67 ≤ cu_ σ76 ∧ su_ σ67 ≤ su_ σ76 then ck1_ σ76 (if (gN_ σ60 50) = 2 then lt_ (sM_ σ76 1 3 0 0) fun σ86 => lt_ (nO_ σ86 60 0 4) fun σ94 => ck1_ σ94 ((m_X3_init σ94 (gN_ σ86 60)).bind fun σ104 => if cu_ σ94 ≤ cu_ σ104 ∧ su_ σ94 ≤ su_ σ104 then ck1_ σ104 (if (gN_ σ86 60) = 0 then lt_ (sM_ σ104 1 4 0 0) fun σ115 => lt_ (nO_ σ115 65 0 2) fun σ124 => ck1_ σ124 ((m_X4_init σ124 (gN_ σ115 65)).bind fun σ135 => if cu_ σ124 ≤ cu_ σ135 ∧ su_ σ124 ≤ su_ σ135 then ck1_ σ135 (if (gN_ σ115 65) = 0 then lt_ (sM_ σ135 1 5 0 0) fun σ147 => lt_ (nO_ σ147 70 0 3) fun σ157 => ck1_ σ157 (lt_ (sM_ (sF_ σ157 70 0 (gN_ σ147 70) 0) 70 1 (gN_ σ147 70) 0) fun σ167 => if (gN_ σ147 70) = 0 then lt_ (sM_ σ167 1 6 0 0) fun σ178 => lt_ (nO_ σ178 72 0 3) fun σ189 => ck1_ σ189 (lt_ (sM_ (sF_ σ189 72 0 (gN_ σ178 72) 0) 72 1 (gN_ σ178 72) 0) fun σ200 => if (gN_ σ178 72) = 0 then lt_ (sM_ σ200 1 7 0 0) fun σ212 => lt_ (nO_ σ212 74 0 3) fun σ224 => ck1_ σ224 (lt_ (sM_ (sF_ σ224 74 0 (gN_ σ212 74) 0) 74 1 (gN_ σ212 74) 0) fun σ236 => if (gN_ σ212 74) = 0 then lt_ (sM_ σ236 1 8 0 0) fun σ249 => lt_ (nO_ σ249 76 0 3) fun σ262 => ck1_ σ262 (lt_ (sM_ (sF_ σ262 76 0 (gN_ σ249 76) 0) 76 1 (gN_ σ249 76) 0) fun σ275 => if (gN_ σ249 76) = 0 then lt_ (sM_ σ275 1 9 0 0) fun σ289 => lt_ (nA_ σ289 20 10) fun σ303 => ck1_ σ303 (if (gN_ σ289 20) = 0 then lt_ (sM_ σ303 1 10 0 0) fun σ318 => lt_ (nA_ σ318 21 10) fun σ333 => ck1_ σ333 (if (gN_ σ318 21) = 0 then lt_ (sM_ σ333 1 11 0 0) fun σ349 => lt_ (nA_ σ349 22 10) fun σ365 => ck1_ σ365 (if (gN_ σ349 22) = 0 then lt_ (sM_ σ365 1 12 0 0) fun σ382 => lt_ (nA_ σ382 23 10) fun σ399 => ck1_ σ399 (if (gN_ σ382 23) = 0 then lt_ (sM_ σ399 1 13 0 0) fun σ417 => lt_ (nA_ σ417 24 12) fun σ435 => ck1_ σ435 (if (gN_ σ417 24) = 0 then lt_ (sM_ σ435 1 14 0 0) fun σ454 => lt_ (nA_ σ454 25 2) fun σ473 => ck1_ σ473 (if (gN_ σ454 25) = 0 then lt_ (sM_ σ473 1 15 0 0) fun σ493 => lt_ (nA_ σ493 26 64) fun σ513 => ck1_ σ513 (if (gN_ σ493 26) = 0 then lt_ (sM_ σ513 1 16 0 0) fun σ534 => lt_ (nA_ σ534 27 60) fun σ555 => ck1_ σ555 (if (gN_ σ534 27) = 0 then lt_ (sM_ σ555 1 17 0 0) fun σ577 => lt_ (nA_ σ577 28 60) fun σ599 => ck1_ σ599 (if (gN_ σ577 28) = 0 then lt_ (sM_ σ599 1 18 0 0) fun σ622 => lt_ (nA_ σ622 29 5) fun σ645 => ck1_ σ645 (if (gN_ σ622 29) = 0 then lt_ (sM_ σ645 1 19 0 0) fun σ669 => lt_ (nA_ σ669 30 64) fun σ693 => ck1_ σ693 (if (gN_ σ669 30) = 0 then lt_ (sM_ σ693 1 20 0 0) fun σ718 => lt_ (nA_ σ718 31 10) fun σ743 => ck1_ σ743 (if (gN_ σ718 31) = 0 then lt_ (sM_ σ743 1 21 0 0) fun σ769 => lt_ (nA_ σ769 32 10) fun σ795 => ck1_ σ795 (lt_ (sM_ σ795 1 22 0 (gN_ σ769 32)) fun σ821 => lt_ (nA_ σ821 32 10) fun σ848 => ck1_ σ848 (if (gN_ σ821 32) = 1 then lt_ (sM_ σ848 1 23 0 0) fun σ876 => lt_ (nA_ σ876 32 10) fun σ904 => ck1_ σ904 (if (gN_ σ876 32) = 2 then lt_ (sM_ σ904 1 24 0 0) fun σ933 => lt_ (nA_ σ933 35 10) fun σ962 => ck1_ σ962 (if (gN_ σ933 35) = 0 then lt_ (sM_ σ962 1 25 0 0) fun σ992 => lt_ (nA_ σ992 36 10) fun σ1022 => ck1_ σ1022 (if (gN_ σ992 36) = 0 then lt_ (sM_ σ1022 1 26 0 0) fun σ1053 => lt_ (nA_ σ1053 37 64) fun σ1084 => ck1_ σ1084 (if (gN_ σ1053 37) = 0 then lt_ (sM_ σ1084 1 27 0 0) fun σ1116 => lt_ (nA_ σ1116 38 64) fun σ1148 => ck1_ σ1148 (if (gN_ σ1116 38) = 0 then lt_ (sM_ σ1148 1 28 0 0) fun σ1181 => lt_ (nA_ σ1181 39 64) fun σ1214 => ck1_ σ1214 (if (gN_ σ1181 39) = 0 then lt_ (sM_ σ1214 1 29 0 0) fun σ1248 => lt_ (nM_ σ1248 40 41 10 1000) fun σ1282 => ck1_ σ1282 (if (gN_ σ1248 40) = 0 then lt_ (sM_ σ1282 1 30 0 0) fun σ1317 => lt_ (nO_ σ1317 87 0 12) fun σ1352 => ck1_ σ1352 ((m_X5_init σ1352 (gN_ σ1317 87) (0 : Int32)).bind fun σ1389 => if cu_ σ1352 ≤ cu_ σ1389 ∧ su_ σ1352 ≤ su_ σ1389 then ck1_ σ1389 (lt_ (sM_ σ1389 1 31 0 (gN_ σ1317 87)) fun σ1426 => (m_X1_init_L298 fu_) σ1426 (0 : Int32)) else none) else none) else none) else none) else none) else none) else none) else none) else none)) else none) else none) else none) else none) else none) else none) else none) else none) else none) else none) else none) else none) else none) else none) else none) else none) else none) else none) else none) else none) else none) else none) else none) else none) else none) else none) else none) else none
set_option maxHeartbeats 4000000 in
theorem c_X5_init (g : wg_T) (hgm : gm g = false) (l : Launch) (L : ly_T) (σ : st_T) (i0 : Nat) (a2 : Int32) (σ_ : st_T) (hs : m_X5_init σ i0 a2 = some σ_) : AV g l yX5_init (ws_ yX5_init cX5_init 4 none) 4 105 [.ref (L 87 i0), .ref (L 1 0), .int a2] L σ  σ_ := by
  refine wbody.met (by decide) (Nat.le_of_ble_eq_true rfl) ?_
  intro p e s m args below meth c ls hx hb hr hml hlocks hts hown hnm hW hl
  have hown : s.vm.findClass RX5 = some m.cls := hown
  obtain ⟨L0, hL0⟩ : ∃ L0, L0 = L := ⟨_, rfl⟩
  obtain ⟨σ0, hσ0⟩ : ∃ σ0, σ0 = σ := ⟨_, rfl⟩
  rw [← hσ0, ← hL0]
  have hx0 : lext L0 σ0 L σ := by rw [hL0, hσ0]; exact lext.refl
  have hcs : bk σ0 σ 0 0 := bk.start hσ0
  have hrm : 0 ≤ cu_ σ_ - cu_ σ0 ∧ 0 ≤ su_ σ_ - su_ σ0 := ⟨Nat.zero_le _, Nat.zero_le _⟩
  have hl : lv_has ls 4 [(0, .ref (L 87 i0)), (1, .ref (L 1 0)), (2, .int a2)] := hl
  unfold m_X5_init at hs
  have hL86 : ∀ (n86 : Nat), ∀ (L : ly_T) (σ : st_T) (x3 : Int32) (H : Heap) (locs : List Loc) (cells slots : Nat) (ls : Array Slot), lext L0 σ0 L σ → bk σ0 σ cells slots → (cells ≤ cu_ σ_ - cu_ σ0 ∧ slots ≤ su_ σ_ - su_ σ0) → wv g L σ s H locs → lv_has ls 4 [(0, .ref (L 87 i0)), (3, .int x3)] → (m_X5_init_L86 i0 n86) σ x3 = some σ_ → W p l e (wrA 4 105 σ0 σ_) s m args below meth c H locs cells slots (MQ below (wAv g L0 σ0 σ_) args s (cu_ σ_ - cu_ σ0) (su_ σ_ - su_ σ0) (fun q => gz g ≤ q)) (F0 m 86 ls []) := by
    intro n86
    induction n86 with
    | zero => intro L σ x3 H locs cells slots ls hx0 hcs hrm hW hl hs; rw [m_X5_init_L86] at hs; cases hs
    | succ n86 ih86 =>
      intro L σ x3 H locs cells slots ls hx0 hcs hrm hW hl hs
      rw [m_X5_init_L86] at hs
      refine lv_iload_n hx hb dX5_init_86 rfl (lv_at hl 1 rfl) ?_
      refine lv_iconst (v := 4) hx hb dX5_init_87 (by decide) ?_
      refine lv_icmp_ge (tgt := 114) hx hb dX5_init_88 (by decide) (fun hc1 => ?_) (fun hc1 => ?_)
      · have hs := ww_T hs hc1
        have hs := ww_S hs
        exact wa_v hx hb hr hlocks hx0 hcs hW hs dX5_init_114
      · have hs := ww_F hs hc1
        refine lv_aload_n hx hb dX5_init_91 rfl (lv_at hl 0 rfl) ?_
        obtain ⟨hc2, hs⟩ := ww_chk hs
        obtain ⟨hc3, hs⟩ := ww_chk hs
        refine gf_X5_17 hx hb hts hown hW (pr_dy hc2 rfl rfl) hc3 dX5_init_92 ?_
        refine lv_iload_n hx hb dX5_init_95 rfl (lv_at hl 1 rfl) ?_
        obtain ⟨hc4, hs⟩ := ww_chk hs
        obtain ⟨hc5, hs⟩ := ww_chk hs
        refine ww_aaldI hx hb hW 88 i0 (pr_dy hc4 rfl rfl) rfl hc5 dX5_init_96 ?_
        refine lv_iconst (v := 0) hx hb dX5_init_97 (by decide) ?_
        refine lv_bipush (v := 10) hx hb dX5_init_98 (by decide) ?_
        obtain ⟨σ6, e7, hs⟩ := ww_let hs
        refine ww_iast hx hb hW 89 (4 * i0 + x3.toNatClampNeg) (pr_mul hc4 hc5 rfl rfl) rfl (vin_lit rfl) dX5_init_100 (fun H locs hW => ?_)
        have hW : wv g L σ6 s H locs := by rw [e7]; exact hW
        obtain ⟨hx0, hcs⟩ := lx_s (σ1 := σ6) hx0 hcs (by rw [e7]; exact kp_E)
        have hc8 : i0 < gN_ σ6 87 := by rw [e7]; exact hc2
        have hc9 : i0 < gN_ σ6 88 := by rw [e7]; exact hc4
        refine lv_aload_n hx hb dX5_init_101 rfl (lv_at hl 0 rfl) ?_
        obtain ⟨hc10, hs⟩ := ww_chk hs
        refine gf_X5_20 hx hb hts hown hW (pr_dy hc8 rfl rfl) hc10 dX5_init_102 ?_
        refine lv_iload_n hx hb dX5_init_105 rfl (lv_at hl 1 rfl) ?_
        refine lv_iconst (v := 1) hx hb dX5_init_106 (by decide) ?_
        obtain ⟨hc11, hs⟩ := ww_chk hs
        obtain ⟨σ12, e13, hs⟩ := ww_let hs
        refine ww_iast hx hb hW 90 i0 (pr_dy hc11 rfl rfl) rfl hc5 dX5_init_107 (fun H locs hW => ?_)
        have hW : wv g L σ12 s H locs := by rw [e13]; exact hW
        obtain ⟨hx0, hcs⟩ := lx_s (σ1 := σ12) hx0 hcs (by rw [e13]; exact kp_E)
        have hc14 : i0 < gN_ σ12 87 := by rw [e13]; exact hc8
        have hc15 : i0 < gN_ σ12 88 := by rw [e13]; exact hc9
        have hc16 : i0 < gN_ σ12 90 := by rw [e13]; exact hc11
        refine lv_iinc (v := (x3 + (1 : Int32))) (lv' := [(3, .int (x3 + (1 : Int32))), (0, .ref (L 87 i0))]) hx hb dX5_init_108 hl (k := 1) rfl rfl (by decide) rfl (fun ls hl => ?_)
        refine lv_goto (tgt := 86) hx hb dX5_init_111 (by decide) ?_
        exact ih86 L σ12 (x3 + (1 : Int32)) _ _ _ _ ls hx0 hcs hrm hW (lv_sub hl [1, 0] rfl) hs
  refine lv_aload_n hx hb dX5_init_0 rfl (lv_at hl 0 rfl) ?_
  refine lv_aload_n hx hb dX5_init_1 rfl (lv_at hl 1 rfl) ?_
  obtain ⟨hc17, hs⟩ := ww_chk hs
  obtain ⟨hc18, hs⟩ := ww_chk hs
  obtain ⟨σ19, e20, hs⟩ := ww_let hs
  refine ww_markF (d := (1, 1, 0)) hx hb hts hown (hnm.trans rfl) hW 87 i0 11 0 (pr_dy hc17 rfl rfl) (tgd_1 (pr_dy hc18 rfl rfl)) (obv_0 rfl) rfl (by decide) (Nat.le_of_ble_eq_true rfl) in_X5 tyX5_ok nmX5 rfl (Nat.le_of_ble_eq_true rfl) (hts _ q332) (fun _ h => h) rfl rfl rfl (fun _ => rfl) (fun _ => rfl) rfl dX5_init_2 (fun H locs hW => ?_)
  have hW : wv g L σ19 s H locs := by rw [e20]; exact hW
  obtain ⟨hx0, hcs⟩ := lx_s (σ1 := σ19) hx0 hcs (by rw [e20]; exact (kp_M (by decide)))
  have hc21 : i0 < gN_ σ19 87 := by rw [e20]; exact hc17
  have hc22 : 0 < gN_ σ19 1 := by rw [e20]; exact hc18
  refine lv_aload_n hx hb dX5_init_5 rfl (lv_at hl 0 rfl) ?_
  refine W.objInit hx hb hown (hts _ q272) (hts _ q159) (hts _ q160) rfl (hl.1.trans hml.symm) rfl dX5_init_6 (Nat.le_of_ble_eq_true rfl) (Nat.le_of_ble_eq_true rfl) ?_
  refine lv_aload_n hx hb dX5_init_9 rfl (lv_at hl 0 rfl) ?_
  refine lv_iconst (v := 4) hx hb dX5_init_10 (by decide) ?_
  refine lv_bipush (v := 12) hx hb dX5_init_11 (by decide) ?_
  have hl : lv_has ls 4 [(0, .ref (L 87 i0)), (2, .int a2)] := lv_sub hl [0, 2] rfl
  have hp23 : pr σ19 87 i0 := (pr_dy hc21 rfl rfl)
  obtain ⟨σ24, e25, hs⟩ := ww_let hs
  obtain ⟨hs, hck⟩ := ww_ck1 hs
  have hrm1 := hcs.room (σ1 := σ24) (a := 1 + 4) (b := 4 + 4 * 12) (by rw [e25]; rfl) (by rw [e25]; rfl) hck
  refine ww_mula hx hb .int hown (hts _ q273) (ao_use hW.1.2.2.2.2.2.2.2.2.2.2.2.1) (hts _ q201) hW 88 89 4 12 4 0 (Or.inl ⟨rfl, rfl⟩) rfl own2_88 (Or.inr hgm) (hW.1.1.2 0 _ rfl).2 (hW.1.1.2 4 _ rfl).2 rfl (by decide) (by decide) rfl rfl (Nat.le_of_ble_eq_true rfl) (Nat.le_of_ble_eq_true rfl) (Nat.le_of_ble_eq_true rfl) rfl rfl hrm1.1 hrm1.2 dX5_init_13 (fun H L hx1 hW => ?_)
  rw [← e25] at hx1 hW
  have hcs := hcs.more (σ1 := σ24) (a := 1 + 4) (b := 4 + 4 * 12) (by rw [e25]; rfl) (by rw [e25]; rfl)
  have hrm := hrm1
  have hc26 : i0 < gN_ σ24 87 := Nat.lt_of_lt_of_le hc21 (hx1.2.1 87)
  have hc27 : 0 < gN_ σ24 1 := Nat.lt_of_lt_of_le hc22 (hx1.2.1 1)
  have hc28 : gN_ σ19 88 < gN_ σ24 88 := by rw [e25]; exact nM_lt
  have hl : lv_has ls 4 [(0, .ref (L 87 i0)), (2, .int a2)] := by rw [hx1.at hp23 (by decide)]; exact hl
  refine ww_stk (st1 := [.ref (L 88 (gN_ σ19 88)), .ref (L 87 i0)]) (by rw [hx1.at hp23 (by decide)]) ?_
  have hx0 := hx0.trans hx1
  obtain ⟨hc29, hs⟩ := ww_chk hs
  have hpq : pr σ24 88 (gN_ σ19 88) := (pr_dy hc28 rfl rfl)
  rw [hc29] at hpq
  obtain ⟨σ30, e31, hs⟩ := ww_let hs
  refine ww_markF (d := (2, 88, 0)) hx hb hts hown (hnm.trans rfl) hW 87 i0 1 0 (pr_dy hc26 rfl rfl) (tgd_2 hpq) (obv_0 rfl) rfl (by decide) (Nat.le_of_ble_eq_true rfl) in_X5 tyX5_ok nmX5 rfl (Nat.le_of_ble_eq_true rfl) (hts _ q315) (fun _ h => h) rfl rfl rfl (fun _ => rfl) (fun _ => rfl) (by rw [hc29]; rfl) dX5_init_17 (fun H locs hW => ?_)
  have hW : wv g L σ30 s H locs := by rw [e31]; exact hW
  obtain ⟨hx0, hcs⟩ := lx_s (σ1 := σ30) hx0 hcs (by rw [e31]; exact (kp_M (by decide)))
  have hc32 : i0 < gN_ σ30 87 := by rw [e31]; exact hc26
  have hc33 : 0 < gN_ σ30 1 := by rw [e31]; exact hc27
  have hc34 : (gN_ σ19 88) < gN_ σ30 88 := by rw [e31]; exact hc28
  refine lv_aload_n hx hb dX5_init_20 rfl (lv_at hl 0 rfl) ?_
  refine lv_iconst (v := 4) hx hb dX5_init_21 (by decide) ?_
  have hp35 : pr σ30 87 i0 := (pr_dy hc32 rfl rfl)
  obtain ⟨σ36, e37, hs⟩ := ww_let hs
  obtain ⟨hs, hck⟩ := ww_ck1 hs
  have hrm1 := hcs.room (σ1 := σ36) (a := 1) (b := 4) (by rw [e37]; rfl) (by rw [e37]; rfl) hck
  refine ww_newa (atype := .int) hx hb (hts _ q201) hW 90 0 4 (Or.inl rfl) sole_90 (Or.inr hgm) rfl rfl rfl (by decide) rfl (Nat.le_of_ble_eq_true rfl) hrm1.1 hrm1.2 dX5_init_22 (fun H L hx1 hW => ?_)
  rw [← e37] at hx1 hW
  have hcs := hcs.more (σ1 := σ36) (a := 1) (b := 4) (by rw [e37]; rfl) (by rw [e37]; rfl)
  have hrm := hrm1
  have hc38 : i0 < gN_ σ36 87 := Nat.lt_of_lt_of_le hc32 (hx1.2.1 87)
  have hc39 : 0 < gN_ σ36 1 := Nat.lt_of_lt_of_le hc33 (hx1.2.1 1)
  have hc40 : (gN_ σ19 88) < gN_ σ36 88 := Nat.lt_of_lt_of_le hc34 (hx1.2.1 88)
  have hc41 : gN_ σ30 90 < gN_ σ36 90 := by rw [e37]; exact nA_lt rfl
  rw [show ow_ 90 = 90 from rfl]
  have hl : lv_has ls 4 [(0, .ref (L 87 i0)), (2, .int a2)] := by rw [hx1.at hp35 (by decide)]; exact hl
  refine ww_stk (st1 := [.ref (L 90 (gN_ σ30 90)), .ref (L 87 i0)]) (by rw [hx1.at hp35 (by decide)]) ?_
  have hx0 := hx0.trans hx1
  obtain ⟨hc42, hs⟩ := ww_chk hs
  have hpq : pr σ36 90 (gN_ σ30 90) := (pr_dy hc41 rfl rfl)
  rw [hc42] at hpq
  obtain ⟨σ43, e44, hs⟩ := ww_let hs
  refine ww_markF (d := (2, 90, 0)) hx hb hts hown (hnm.trans rfl) hW 87 i0 2 0 (pr_dy hc38 rfl rfl) (tgd_2 hpq) (obv_0 rfl) rfl (by decide) (Nat.le_of_ble_eq_true rfl) in_X5 tyX5_ok nmX5 rfl (Nat.le_of_ble_eq_true rfl) (hts _ q316) (fun _ h => h) rfl rfl rfl (fun _ => rfl) (fun _ => rfl) (by rw [hc42]; rfl) dX5_init_24 (fun H locs hW => ?_)
  have hW : wv g L σ43 s H locs := by rw [e44]; exact hW
  obtain ⟨hx0, hcs⟩ := lx_s (σ1 := σ43) hx0 hcs (by rw [e44]; exact (kp_M (by decide)))
  have hc45 : i0 < gN_ σ43 87 := by rw [e44]; exact hc38
  have hc46 : 0 < gN_ σ43 1 := by rw [e44]; exact hc39
  have hc47 : (gN_ σ19 88) < gN_ σ43 88 := by rw [e44]; exact hc40
  have hc48 : (gN_ σ30 90) < gN_ σ43 90 := by rw [e44]; exact hc41
  refine lv_aload_n hx hb dX5_init_27 rfl (lv_at hl 0 rfl) ?_
  refine lv_iconst (v := 1) hx hb dX5_init_28 (by decide) ?_
  obtain ⟨σ49, e50, hs⟩ := ww_let hs
  refine ww_put hx hb hts hown hW 87 i0 3 (pr_dy hc45 rfl rfl) (obv_0 rfl) rfl in_X5 tyX5_ok nmX5 rfl (Nat.le_of_ble_eq_true rfl) (Or.inl (hts _ q317)) (fun _ h => h) rfl rfl rfl rfl dX5_init_29 (fun H locs hW => ?_)
  have hW : wv g L σ49 s H locs := by rw [e50]; exact hW
  obtain ⟨hx0, hcs⟩ := lx_s (σ1 := σ49) hx0 hcs (by rw [e50]; exact kp_F)
  have hc51 : i0 < gN_ σ49 87 := by rw [e50]; exact hc45
  have hc52 : 0 < gN_ σ49 1 := by rw [e50]; exact hc46
  have hc53 : (gN_ σ19 88) < gN_ σ49 88 := by rw [e50]; exact hc47
  have hc54 : (gN_ σ30 90) < gN_ σ49 90 := by rw [e50]; exact hc48
  refine lv_aload_n hx hb dX5_init_32 rfl (lv_at hl 0 rfl) ?_
  refine lv_bipush (v := 100) hx hb dX5_init_33 (by decide) ?_
  obtain ⟨σ55, e56, hs⟩ := ww_let hs
  refine ww_put hx hb hts hown hW 87 i0 4 (pr_dy hc51 rfl rfl) (obv_0 rfl) rfl in_X5 tyX5_ok nmX5 rfl (Nat.le_of_ble_eq_true rfl) (Or.inl (hts _ q319)) (fun _ h => h) rfl rfl rfl rfl dX5_init_35 (fun H locs hW => ?_)
  have hW : wv g L σ55 s H locs := by rw [e56]; exact hW
  obtain ⟨hx0, hcs⟩ := lx_s (σ1 := σ55) hx0 hcs (by rw [e56]; exact kp_F)
  have hc57 : i0 < gN_ σ55 87 := by rw [e56]; exact hc51
  have hc58 : 0 < gN_ σ55 1 := by rw [e56]; exact hc52
  have hc59 : (gN_ σ19 88) < gN_ σ55 88 := by rw [e56]; exact hc53
  have hc60 : (gN_ σ30 90) < gN_ σ55 90 := by rw [e56]; exact hc54
  refine lv_aload_n hx hb dX5_init_38 rfl (lv_at hl 0 rfl) ?_
  refine lv_bipush (v := 50) hx hb dX5_init_39 (by decide) ?_
  obtain ⟨σ61, e62, hs⟩ := ww_let hs
  refine ww_put hx hb hts hown hW 87 i0 5 (pr_dy hc57 rfl rfl) (obv_0 rfl) rfl in_X5 tyX5_ok nmX5 rfl (Nat.le_of_ble_eq_true rfl) (Or.inl (hts _ q321)) (fun _ h => h) rfl rfl rfl rfl dX5_init_41 (fun H locs hW => ?_)
  have hW : wv g L σ61 s H locs := by rw [e62]; exact hW
  obtain ⟨hx0, hcs⟩ := lx_s (σ1 := σ61) hx0 hcs (by rw [e62]; exact kp_F)
  have hc63 : i0 < gN_ σ61 87 := by rw [e62]; exact hc57
  have hc64 : 0 < gN_ σ61 1 := by rw [e62]; exact hc58
  have hc65 : (gN_ σ19 88) < gN_ σ61 88 := by rw [e62]; exact hc59
  have hc66 : (gN_ σ30 90) < gN_ σ61 90 := by rw [e62]; exact hc60
  refine lv_aload_n hx hb dX5_init_44 rfl (lv_at hl 0 rfl) ?_
  refine lv_bipush (v := 100) hx hb dX5_init_45 (by decide) ?_
  obtain ⟨σ67, e68, hs⟩ := ww_let hs
  refine ww_put hx hb hts hown hW 87 i0 6 (pr_dy hc63 rfl rfl) (obv_0 rfl) rfl in_X5 tyX5_ok nmX5 rfl (Nat.le_of_ble_eq_true rfl) (Or.inl (hts _ q323)) (fun _ h => h) rfl rfl rfl rfl dX5_init_47 (fun H locs hW => ?_)
  have hW : wv g L σ67 s H locs := by rw [e68]; exact hW
  obtain ⟨hx0, hcs⟩ := lx_s (σ1 := σ67) hx0 hcs (by rw [e68]; exact kp_F)
  have hc69 : i0 < gN_ σ67 87 := by rw [e68]; exact hc63
  have hc70 : 0 < gN_ σ67 1 := by rw [e68]; exact hc64
  have hc71 : (gN_ σ19 88) < gN_ σ67 88 := by rw [e68]; exact hc65
  have hc72 : (gN_ σ30 90) < gN_ σ67 90 := by rw [e68]; exact hc66
  refine lv_aload_n hx hb dX5_init_50 rfl (lv_at hl 0 rfl) ?_
  have hp73 : pr σ67 87 i0 := (pr_dy hc69 rfl rfl)
  obtain ⟨σ74, e75, hs⟩ := ww_let hs
  obtain ⟨hs, hck⟩ := ww_ck1 hs
  have hrm1 := hcs.room (σ1 := σ74) (a := 1) (b := 3) (by rw [e75]; rfl) (by rw [e75]; rfl) hck
  refine ww_newo (ci := 15) hx hb hts in_X7 tyX7 tyX7_ok hown (hts _ q275) (hts _ q276) (hts _ q120) hW 91 2 (obv_6 (t := 2) rfl (by rw [gP_nO _ _ _ _ _ _ _ (by decide), if_pos ⟨rfl, rfl⟩]; rfl)) rfl df_91_2 (Nat.le_of_ble_eq_true rfl) rfl sole_91 (Or.inr hgm) (Or.inl hgm) hrm1.1 hrm1.2 dX5_init_51 (fun H L hx1 hW => ?_)
  rw [← e75] at hx1 hW
  have hcs := hcs.more (σ1 := σ74) (a := 1) (b := 3) (by rw [e75]; rfl) (by rw [e75]; rfl)
  have hrm := hrm1
  have hc76 : i0 < gN_ σ74 87 := Nat.lt_of_lt_of_le hc69 (hx1.2.1 87)
  have hc77 : 0 < gN_ σ74 1 := Nat.lt_of_lt_of_le hc70 (hx1.2.1 1)
  have hc78 : (gN_ σ19 88) < gN_ σ74 88 := Nat.lt_of_lt_of_le hc71 (hx1.2.1 88)
  have hc79 : (gN_ σ30 90) < gN_ σ74 90 := Nat.lt_of_lt_of_le hc72 (hx1.2.1 90)
  have hc80 : gN_ σ67 91 < gN_ σ74 91 := by rw [e75]; exact nO_lt rfl
  rw [show ow_ 91 = 91 from rfl]
  have hl : lv_has ls 4 [(0, .ref (L 87 i0)), (2, .int a2)] := by rw [hx1.at hp73 (by decide)]; exact hl
  refine ww_stk (st1 := [.ref (L 91 (gN_ σ67 91)), .ref (L 87 i0)]) (by rw [hx1.at hp73 (by decide)]) ?_
  have hx0 := hx0.trans hx1
  refine lv_dup hx hb dX5_init_54 rfl ?_
  refine lv_bipush (v := 47) hx hb dX5_init_55 (by decide) ?_
  have hp81 : pr σ74 87 i0 := (pr_dy hc76 rfl rfl)
  have hp82 : pr σ74 91 (gN_ σ67 91) := (pr_dy hc80 rfl rfl)
  obtain ⟨σ83, e84, hs⟩ := ww_let hs
  obtain ⟨hs, hck⟩ := ww_ck1 hs
  have hrm1 := hcs.room (σ1 := σ83) (a := 1) (b := 1) (by rw [e84]; rfl) (by rw [e84]; rfl) hck
  refine ww_newo (ci := 14) hx hb hts in_X8 tyX8 tyX8_ok hown (hts _ q277) (hts _ q278) (hts _ q121) hW 91 1 (obv_6 (t := 1) rfl (by rw [gP_nO _ _ _ _ _ _ _ (by decide), if_pos ⟨rfl, rfl⟩]; rfl)) rfl df_91_1 (Nat.le_of_ble_eq_true rfl) rfl sole_91 (Or.inr hgm) (Or.inl hgm) hrm1.1 hrm1.2 dX5_init_57 (fun H L hx1 hW => ?_)
  rw [← e84] at hx1 hW
  have hcs := hcs.more (σ1 := σ83) (a := 1) (b := 1) (by rw [e84]; rfl) (by rw [e84]; rfl)
  have hrm := hrm1
  have hc85 : i0 < gN_ σ83 87 := Nat.lt_of_lt_of_le hc76 (hx1.2.1 87)
  have hc86 : 0 < gN_ σ83 1 := Nat.lt_of_lt_of_le hc77 (hx1.2.1 1)
  have hc87 : (gN_ σ19 88) < gN_ σ83 88 := Nat.lt_of_lt_of_le hc78 (hx1.2.1 88)
  have hc88 : (gN_ σ30 90) < gN_ σ83 90 := Nat.lt_of_lt_of_le hc79 (hx1.2.1 90)
  have hc89 : (gN_ σ67 91) < gN_ σ83 91 := Nat.lt_of_lt_of_le hc80 (hx1.2.1 91)
  have hc90 : gN_ σ74 91 < gN_ σ83 91 := by rw [e84]; exact nO_lt rfl
  rw [show ow_ 91 = 91 from rfl]
  have hl : lv_has ls 4 [(0, .ref (L 87 i0)), (2, .int a2)] := by rw [hx1.at hp81 (by decide)]; exact hl
  refine ww_stk (st1 := [.ref (L 91 (gN_ σ74 91)), .int (47 : Int32), .ref (L 91 (gN_ σ67 91)), .ref (L 91 (gN_ σ67 91)), .ref (L 87 i0)]) (by rw [hx1.at hp81 (by decide), hx1.at hp82 (by decide)]) ?_
  have hx0 := hx0.trans hx1
  refine lv_dup hx hb dX5_init_60 rfl ?_
  refine lv_iconst (v := 1) hx hb dX5_init_61 (by decide) ?_
  obtain ⟨σ93, hc91, hs⟩ := ww_bnd hs
  obtain ⟨hkp, hs⟩ := ww_pif hs
  obtain ⟨hx0, hcs⟩ := lx_s hx0 hcs hkp
  refine ww_cv (va_runI (As := [.int (1 : Int32)]) (rest := [.ref (L 91 (gN_ σ74 91)), .int (47 : Int32), .ref (L 91 (gN_ σ67 91)), .ref (L 91 (gN_ σ67 91)), .ref (L 87 i0)]) ⟨hx, hb, hml, hown, hts⟩ (c_X8_init g hgm l L σ83 (gN_ σ74 91) (1 : Int32) _ hc91) (cwI 1 hts (lw_meth q281) rfl rfl rfl (hts _ q121) (hts _ q279) (hts _ q280) rfl hd_X8_init.2 ⟨(Nat.le_of_ble_eq_true rfl), (Nat.le_of_ble_eq_true rfl)⟩) (ww_preS hW) rfl rfl hl.1 rfl (lv_room (Nat.le_of_ble_eq_true rfl)) dX5_init_62 hrm) hW (fun H locs hW => ?_)
  have hc94 : i0 < gN_ σ93 87 := by rw [hkp.1]; exact hc85
  have hc95 : 0 < gN_ σ93 1 := by rw [hkp.1]; exact hc86
  have hc96 : (gN_ σ19 88) < gN_ σ93 88 := by rw [hkp.1]; exact hc87
  have hc97 : (gN_ σ30 90) < gN_ σ93 90 := by rw [hkp.1]; exact hc88
  have hc98 : (gN_ σ67 91) < gN_ σ93 91 := by rw [hkp.1]; exact hc89
  have hc99 : (gN_ σ74 91) < gN_ σ93 91 := by rw [hkp.1]; exact hc90
  have hp100 : pr σ93 87 i0 := (pr_dy hc94 rfl rfl)
  have hp101 : pr σ93 91 (gN_ σ67 91) := (pr_dy hc98 rfl rfl)
  have hp102 : pr σ93 91 (gN_ σ74 91) := (pr_dy hc99 rfl rfl)
  obtain ⟨σ103, e104, hs⟩ := ww_let hs
  obtain ⟨hs, hck⟩ := ww_ck1 hs
  have hrm1 := hcs.room (σ1 := σ103) (a := 1) (b := 1) (by rw [e104]; rfl) (by rw [e104]; rfl) hck
  refine ww_newo (ci := 13) hx hb hts in_X9 tyX9 tyX9_ok hown (hts _ q287) (hts _ q288) (hts _ q122) hW 91 0 (obv_6 (t := 0) rfl (by rw [gP_nO _ _ _ _ _ _ _ (by decide), if_pos ⟨rfl, rfl⟩]; rfl)) rfl df_91_0 (Nat.le_of_ble_eq_true rfl) rfl sole_91 (Or.inr hgm) (Or.inl hgm) hrm1.1 hrm1.2 dX5_init_65 (fun H L hx1 hW => ?_)
  rw [← e104] at hx1 hW
  have hcs := hcs.more (σ1 := σ103) (a := 1) (b := 1) (by rw [e104]; rfl) (by rw [e104]; rfl)
  have hrm := hrm1
  have hc105 : i0 < gN_ σ103 87 := Nat.lt_of_lt_of_le hc94 (hx1.2.1 87)
  have hc106 : 0 < gN_ σ103 1 := Nat.lt_of_lt_of_le hc95 (hx1.2.1 1)
  have hc107 : (gN_ σ19 88) < gN_ σ103 88 := Nat.lt_of_lt_of_le hc96 (hx1.2.1 88)
  have hc108 : (gN_ σ30 90) < gN_ σ103 90 := Nat.lt_of_lt_of_le hc97 (hx1.2.1 90)
  have hc109 : (gN_ σ67 91) < gN_ σ103 91 := Nat.lt_of_lt_of_le hc98 (hx1.2.1 91)
  have hc110 : (gN_ σ74 91) < gN_ σ103 91 := Nat.lt_of_lt_of_le hc99 (hx1.2.1 91)
  have hc111 : gN_ σ93 91 < gN_ σ103 91 := by rw [e104]; exact nO_lt rfl
  rw [show ow_ 91 = 91 from rfl]
  have hl : lv_has ls 4 [(0, .ref (L 87 i0)), (2, .int a2)] := by rw [hx1.at hp100 (by decide)]; exact hl
  refine ww_stk (st1 := [.ref (L 91 (gN_ σ93 91)), .ref (L 91 (gN_ σ74 91)), .int (47 : Int32), .ref (L 91 (gN_ σ67 91)), .ref (L 91 (gN_ σ67 91)), .ref (L 87 i0)]) (by rw [hx1.at hp100 (by decide), hx1.at hp101 (by decide), hx1.at hp102 (by decide)]) ?_
  have hx0 := hx0.trans hx1
  refine lv_dup hx hb dX5_init_68 rfl ?_
  refine lv_iconst (v := 2) hx hb dX5_init_69 (by decide) ?_
  obtain ⟨σ114, hc112, hs⟩ := ww_bnd hs
  obtain ⟨hkp, hs⟩ := ww_pif hs
  obtain ⟨hx0, hcs⟩ := lx_s hx0 hcs hkp
  refine ww_cv (va_runI (As := [.int (2 : Int32)]) (rest := [.ref (L 91 (gN_ σ93 91)), .ref (L 91 (gN_ σ74 91)), .int (47 : Int32), .ref (L 91 (gN_ σ67 91)), .ref (L 91 (gN_ σ67 91)), .ref (L 87 i0)]) ⟨hx, hb, hml, hown, hts⟩ (c_X9_init g hgm l L σ103 (gN_ σ93 91) (2 : Int32) _ hc112) (cwI 1 hts (lw_meth q291) rfl rfl rfl (hts _ q122) (hts _ q289) (hts _ q290) rfl hd_X9_init.2 ⟨(Nat.le_of_ble_eq_true rfl), (Nat.le_of_ble_eq_true rfl)⟩) (ww_preS hW) rfl rfl hl.1 rfl (lv_room (Nat.le_of_ble_eq_true rfl)) dX5_init_70 hrm) hW (fun H locs hW => ?_)
  have hc115 : i0 < gN_ σ114 87 := by rw [hkp.1]; exact hc105
  have hc116 : 0 < gN_ σ114 1 := by rw [hkp.1]; exact hc106
  have hc117 : (gN_ σ19 88) < gN_ σ114 88 := by rw [hkp.1]; exact hc107
  have hc118 : (gN_ σ30 90) < gN_ σ114 90 := by rw [hkp.1]; exact hc108
  have hc119 : (gN_ σ67 91) < gN_ σ114 91 := by rw [hkp.1]; exact hc109
  have hc120 : (gN_ σ74 91) < gN_ σ114 91 := by rw [hkp.1]; exact hc110
  have hc121 : (gN_ σ93 91) < gN_ σ114 91 := by rw [hkp.1]; exact hc111
  obtain ⟨σ124, hc122, hs⟩ := ww_bnd hs
  obtain ⟨hkp, hs⟩ := ww_pif hs
  obtain ⟨hx0, hcs⟩ := lx_s hx0 hcs hkp
  refine ww_cv (va_runI (As := [.int (47 : Int32), .ref (L 91 (gN_ σ74 91)), .ref (L 91 (gN_ σ93 91))]) (rest := [.ref (L 91 (gN_ σ67 91)), .ref (L 87 i0)]) ⟨hx, hb, hml, hown, hts⟩ (c_X7_init g hgm l L σ114 (gN_ σ67 91) (47 : Int32) (gN_ σ74 91) (gN_ σ93 91) _ hc122) (cwI 3 hts (lw_meth q299) rfl rfl rfl (hts _ q120) (hts _ q297) (hts _ q298) rfl hd_X7_init.2 ⟨(Nat.le_of_ble_eq_true rfl), (Nat.le_of_ble_eq_true rfl)⟩) (ww_preS hW) rfl rfl hl.1 rfl (lv_room (Nat.le_of_ble_eq_true rfl)) dX5_init_73 hrm) hW (fun H locs hW => ?_)
  have hc125 : i0 < gN_ σ124 87 := by rw [hkp.1]; exact hc115
  have hc126 : 0 < gN_ σ124 1 := by rw [hkp.1]; exact hc116
  have hc127 : (gN_ σ19 88) < gN_ σ124 88 := by rw [hkp.1]; exact hc117
  have hc128 : (gN_ σ30 90) < gN_ σ124 90 := by rw [hkp.1]; exact hc118
  have hc129 : (gN_ σ67 91) < gN_ σ124 91 := by rw [hkp.1]; exact hc119
  have hc130 : (gN_ σ74 91) < gN_ σ124 91 := by rw [hkp.1]; exact hc120
  have hc131 : (gN_ σ93 91) < gN_ σ124 91 := by rw [hkp.1]; exact hc121
  obtain ⟨σ132, e133, hs⟩ := ww_let hs
  refine ww_mark (d := (3, 91, 0)) hx hb hts hown hW 87 i0 7 (gN_ σ67 91) (pr_dy hc125 rfl rfl) (tgd_3 (pr_dy hc129 rfl rfl)) (obv_0 rfl) rfl (by decide) (Nat.le_of_ble_eq_true rfl) in_X5 tyX5_ok nmX5 rfl (Nat.le_of_ble_eq_true rfl) (Or.inl (hts _ q325)) (fun _ h => h) rfl rfl (fun _ => rfl) (fun _ => rfl) (congrArg Value.ref fp_M3.symm) dX5_init_76 (fun H locs hW => ?_)
  have hW : wv g L σ132 s H locs := by rw [e133]; exact hW
  obtain ⟨hx0, hcs⟩ := lx_s (σ1 := σ132) hx0 hcs (by rw [e133]; exact (kp_M (by decide)))
  have hc134 : i0 < gN_ σ132 87 := by rw [e133]; exact hc125
  have hc135 : 0 < gN_ σ132 1 := by rw [e133]; exact hc126
  have hc136 : (gN_ σ19 88) < gN_ σ132 88 := by rw [e133]; exact hc127
  have hc137 : (gN_ σ30 90) < gN_ σ132 90 := by rw [e133]; exact hc128
  have hc138 : (gN_ σ67 91) < gN_ σ132 91 := by rw [e133]; exact hc129
  have hc139 : (gN_ σ74 91) < gN_ σ132 91 := by rw [e133]; exact hc130
  have hc140 : (gN_ σ93 91) < gN_ σ132 91 := by rw [e133]; exact hc131
  refine lv_aload_n hx hb dX5_init_79 rfl (lv_at hl 0 rfl) ?_
  refine lv_iload_n hx hb dX5_init_80 rfl (lv_at hl 1 rfl) ?_
  obtain ⟨σ141, e142, hs⟩ := ww_let hs
  refine ww_putF hx hb hts hown (hnm.trans rfl) hW 87 i0 0 (pr_dy hc134 rfl rfl) (obv_0 rfl) rfl in_X5 tyX5_ok nmX5 rfl (Nat.le_of_ble_eq_true rfl) (hts _ q314) (fun _ h => h) rfl rfl rfl rfl rfl dX5_init_81 (fun H locs hW => ?_)
  have hW : wv g L σ141 s H locs := by rw [e142]; exact hW
  obtain ⟨hx0, hcs⟩ := lx_s (σ1 := σ141) hx0 hcs (by rw [e142]; exact kp_F)
  have hc143 : i0 < gN_ σ141 87 := by rw [e142]; exact hc134
  have hc144 : 0 < gN_ σ141 1 := by rw [e142]; exact hc135
  have hc145 : (gN_ σ19 88) < gN_ σ141 88 := by rw [e142]; exact hc136
  have hc146 : (gN_ σ30 90) < gN_ σ141 90 := by rw [e142]; exact hc137
  have hc147 : (gN_ σ67 91) < gN_ σ141 91 := by rw [e142]; exact hc138
  have hc148 : (gN_ σ74 91) < gN_ σ141 91 := by rw [e142]; exact hc139
  have hc149 : (gN_ σ93 91) < gN_ σ141 91 := by rw [e142]; exact hc140
  refine lv_iconst (v := 0) hx hb dX5_init_84 (by decide) ?_
  refine lv_istore_n (lv' := [(3, .int (0 : Int32)), (0, .ref (L 87 i0)), (2, .int a2)]) hx hb dX5_init_85 rfl hl (by decide) rfl (fun ls hl => ?_)
  exact hL86 fu_ L σ141 (0 : Int32) _ _ _ _ ls hx0 hcs hrm hW (lv_sub hl [1, 0] rfl) hs
set_option maxHeartbeats 4000000 in
theorem c_X1_init (g : wg_T) (hgm : gm g = false) (l : Launch) (L : ly_T) (σ : st_T)  (σ_ : st_T) (hs : m_X1_init σ = some σ_) : AV g l yX1_init (ws_ yX1_init cX1_init 2 none) 9 220 [.ref (L 1 0)] L σ  σ_ := by
  refine wbody.met (by decide) (Nat.le_of_ble_eq_true rfl) ?_
  intro p e s m args below meth c ls hx hb hr hml hlocks hts hown hnm hW hl
  have hown : s.vm.findClass RX1 = some m.cls := hown
  obtain ⟨L0, hL0⟩ : ∃ L0, L0 = L := ⟨_, rfl⟩
  obtain ⟨σ0, hσ0⟩ : ∃ σ0, σ0 = σ := ⟨_, rfl⟩
  rw [← hσ0, ← hL0]
  have hx0 : lext L0 σ0 L σ := by rw [hL0, hσ0]; exact lext.refl
  have hcs : bk σ0 σ 0 0 := bk.start hσ0
  have hrm : 0 ≤ cu_ σ_ - cu_ σ0 ∧ 0 ≤ su_ σ_ - su_ σ0 := ⟨Nat.zero_le _, Nat.zero_le _⟩
  have hl : lv_has ls 2 [(0, .ref (L 1 0))] := hl
  unfold m_X1_init at hs
  have hL298 : ∀ (n298 : Nat), ∀ (L : ly_T) (σ : st_T) (x1 : Int32) (H : Heap) (locs : List Loc) (cells slots : Nat) (ls : Array Slot), lext L0 σ0 L σ → bk σ0 σ cells slots → (cells ≤ cu_ σ_ - cu_ σ0 ∧ slots ≤ su_ σ_ - su_ σ0) → wv g L σ s H locs → lv_has ls 2 [(0, .ref (L 1 0)), (1, .int x1)] → (m_X1_init_L298 n298) σ x1 = some σ_ → W p l e (wrA 9 220 σ0 σ_) s m args below meth c H locs cells slots (MQ below (wAv g L0 σ0 σ_) args s (cu_ σ_ - cu_ σ0) (su_ σ_ - su_ σ0) (fun q => gz g ≤ q)) (F0 m 298 ls []) := by
    intro n298
    induction n298 with
    | zero => intro L σ x1 H locs cells slots ls hx0 hcs hrm hW hl hs; rw [m_X1_init_L298] at hs; cases hs
    | succ n298 ih298 =>
      intro L σ x1 H locs cells slots ls hx0 hcs hrm hW hl hs
      rw [m_X1_init_L298] at hs
      refine lv_iload_n hx hb dX1_init_298 rfl (lv_at hl 1 rfl) ?_
      refine lv_bipush (v := 64) hx hb dX1_init_299 (by decide) ?_
      refine lv_icmp_ge (tgt := 317) hx hb dX1_init_301 (by decide) (fun hc1 => ?_) (fun hc1 => ?_)
      · have hs := ww_T hs hc1
        have hs := ww_S hs
        exact wa_v hx hb hr hlocks hx0 hcs hW hs dX1_init_317
      · have hs := ww_F hs hc1
        refine lv_aload_n hx hb dX1_init_304 rfl (lv_at hl 0 rfl) ?_
        obtain ⟨hc2, hs⟩ := ww_chk hs
        obtain ⟨hc3, hs⟩ := ww_chk hs
        refine gf_X1_103 hx hb hts hown hW (pr_dy hc2 rfl rfl) hc3 dX1_init_305 ?_
        refine lv_iload_n hx hb dX1_init_308 rfl (lv_at hl 1 rfl) ?_
        refine lv_iconst (v := 1) hx hb dX1_init_309 (by decide) ?_
        obtain ⟨hc4, hs⟩ := ww_chk hs
        obtain ⟨hc5, hs⟩ := ww_chk hs
        obtain ⟨σ6, e7, hs⟩ := ww_let hs
        refine ww_iast hx hb hW 26 0 (pr_dy hc4 rfl rfl) rfl hc5 dX1_init_310 (fun H locs hW => ?_)
        have hW : wv g L σ6 s H locs := by rw [e7]; exact hW
        obtain ⟨hx0, hcs⟩ := lx_s (σ1 := σ6) hx0 hcs (by rw [e7]; exact kp_E)
        have hc8 : 0 < gN_ σ6 1 := by rw [e7]; exact hc2
        have hc9 : 0 < gN_ σ6 26 := by rw [e7]; exact hc4
        refine lv_iinc (v := (x1 + (1 : Int32))) (lv' := [(1, .int (x1 + (1 : Int32))), (0, .ref (L 1 0))]) hx hb dX1_init_311 hl (k := 1) rfl rfl (by decide) rfl (fun ls hl => ?_)
        refine lv_goto (tgt := 298) hx hb dX1_init_314 (by decide) ?_
        exact ih298 L σ6 (x1 + (1 : Int32)) _ _ _ _ ls hx0 hcs hrm hW (lv_sub hl [1, 0] rfl) hs
  refine lv_aload_n hx hb dX1_init_0 rfl (lv_at hl 0 rfl) ?_
  refine W.objInit hx hb hown (hts _ q158) (hts _ q159) (hts _ q160) rfl (hl.1.trans hml.symm) rfl dX1_init_1 (Nat.le_of_ble_eq_true rfl) (Nat.le_of_ble_eq_true rfl) ?_
  refine lv_aload_n hx hb dX1_init_4 rfl (lv_at hl 0 rfl) ?_
  refine lv_sipush (v := 400) hx hb dX1_init_5 (by decide) ?_
  obtain ⟨hc10, hs⟩ := ww_chk hs
  have hp11 : pr σ 1 0 := (pr_dy hc10 rfl rfl)
  obtain ⟨σ12, e13, hs⟩ := ww_let hs
  obtain ⟨hs, hck⟩ := ww_ck1 hs
  have hrm1 := hcs.room (σ1 := σ12) (a := 1) (b := 400) (by rw [e13]; rfl) (by rw [e13]; rfl) hck
  refine ww_newa (atype := .byte) hx hb (hts _ q200) hW 10 1 400 (Or.inl rfl) sole_10 (Or.inr hgm) rfl rfl rfl (by decide) rfl (Nat.le_of_ble_eq_true rfl) hrm1.1 hrm1.2 dX1_init_8 (fun H L hx1 hW => ?_)
  rw [← e13] at hx1 hW
  have hcs := hcs.more (σ1 := σ12) (a := 1) (b := 400) (by rw [e13]; rfl) (by rw [e13]; rfl)
  have hrm := hrm1
  have hc14 : 0 < gN_ σ12 1 := Nat.lt_of_lt_of_le hc10 (hx1.2.1 1)
  have hc15 : gN_ σ 10 < gN_ σ12 10 := by rw [e13]; exact nA_lt rfl
  rw [show ow_ 10 = 10 from rfl]
  have hl : lv_has ls 2 [(0, .ref (L 1 0))] := by rw [hx1.at hp11 (by decide)]; exact hl
  refine ww_stk (st1 := [.ref (L 10 (gN_ σ 10)), .ref (L 1 0)]) (by rw [hx1.at hp11 (by decide)]) ?_
  have hx0 := hx0.trans hx1
  obtain ⟨hc16, hs⟩ := ww_chk hs
  have hpq : pr σ12 10 (gN_ σ 10) := (pr_dy hc15 rfl rfl)
  rw [hc16] at hpq
  obtain ⟨σ17, e18, hs⟩ := ww_let hs
  refine ww_markF (d := (1, 10, 0)) hx hb hts hown (hnm.trans rfl) hW 1 0 0 0 (pr_dy hc14 rfl rfl) (tgd_1 hpq) (obv_0 rfl) rfl (by decide) (Nat.le_of_ble_eq_true rfl) in_X1 tyX1_ok nmX1 rfl (Nat.le_of_ble_eq_true rfl) (hts _ q358) (fun _ h => h) rfl rfl rfl (fun _ => rfl) (fun _ => rfl) (by rw [hc16]; rfl) dX1_init_10 (fun H locs hW => ?_)
  have hW : wv g L σ17 s H locs := by rw [e18]; exact hW
  obtain ⟨hx0, hcs⟩ := lx_s (σ1 := σ17) hx0 hcs (by rw [e18]; exact (kp_M (by decide)))
  have hc19 : 0 < gN_ σ17 1 := by rw [e18]; exact hc14
  have hc20 : (gN_ σ 10) < gN_ σ17 10 := by rw [e18]; exact hc15
  refine lv_aload_n hx hb dX1_init_13 rfl (lv_at hl 0 rfl) ?_
  have hp21 : pr σ17 1 0 := (pr_dy hc19 rfl rfl)
  obtain ⟨σ22, e23, hs⟩ := ww_let hs
  obtain ⟨hs, hck⟩ := ww_ck1 hs
  have hrm1 := hcs.room (σ1 := σ22) (a := 1) (b := 9) (by rw [e23]; rfl) (by rw [e23]; rfl) hck
  refine ww_newo (ci := 1) hx hb hts in_X2 tyX2 tyX2_ok hown (hts _ q161) (hts _ q162) (hts _ q112) hW 50 0 (obv_0 rfl) rfl df_50 (Nat.le_of_ble_eq_true rfl) rfl sole_50 (Or.inr hgm) (Or.inl hgm) hrm1.1 hrm1.2 dX1_init_14 (fun H L hx1 hW => ?_)
  rw [← e23] at hx1 hW
  have hcs := hcs.more (σ1 := σ22) (a := 1) (b := 9) (by rw [e23]; rfl) (by rw [e23]; rfl)
  have hrm := hrm1
  have hc24 : 0 < gN_ σ22 1 := Nat.lt_of_lt_of_le hc19 (hx1.2.1 1)
  have hc25 : (gN_ σ 10) < gN_ σ22 10 := Nat.lt_of_lt_of_le hc20 (hx1.2.1 10)
  have hc26 : gN_ σ17 50 < gN_ σ22 50 := by rw [e23]; exact nO_lt rfl
  rw [show ow_ 50 = 50 from rfl]
  have hl : lv_has ls 2 [(0, .ref (L 1 0))] := by rw [hx1.at hp21 (by decide)]; exact hl
  refine ww_stk (st1 := [.ref (L 50 (gN_ σ17 50)), .ref (L 1 0)]) (by rw [hx1.at hp21 (by decide)]) ?_
  have hx0 := hx0.trans hx1
  refine lv_dup hx hb dX1_init_17 rfl ?_
  obtain ⟨σ29, hc27, hs⟩ := ww_bnd hs
  have hp30 : pr σ22 1 0 := (pr_dy hc24 rfl rfl)
  have hp31 : pr σ22 50 (gN_ σ17 50) := (pr_dy hc26 rfl rfl)
  obtain ⟨hc32, hs⟩ := ww_chk hs
  obtain ⟨hs, hck⟩ := ww_ck1 hs
  have hrm1 := hcs.roomC hc32 hck
  refine wa_cv (va_runIN (As := []) (rest := [.ref (L 50 (gN_ σ17 50)), .ref (L 1 0)]) ⟨hx, hb, hml, hown, hts⟩ (c_X2_init g hgm l L σ22 (gN_ σ17 50) _ hc27) ⟨va_cnB 0 hts (lw_meth q165) rfl rfl rfl (hW.nw 0 rfl) (hts _ q112) hd_X2_init.2 ⟨(Nat.le_of_ble_eq_true rfl), (Nat.le_of_ble_eq_true rfl)⟩, rfl, hts _ q164⟩ (ww_preS hW) rfl rfl hl.1 rfl (lv_room (Nat.le_of_ble_eq_true rfl)) dX1_init_18 hrm1) hW (fun H locs L hx1 hW => ?_)
  have hc33 : 0 < gN_ σ29 1 := Nat.lt_of_lt_of_le hc24 (hx1.2.1 1)
  have hc34 : (gN_ σ 10) < gN_ σ29 10 := Nat.lt_of_lt_of_le hc25 (hx1.2.1 10)
  have hc35 : (gN_ σ17 50) < gN_ σ29 50 := Nat.lt_of_lt_of_le hc26 (hx1.2.1 50)
  have hcs := hcs.call hc32
  have hrm := hrm1
  have hl : lv_has ls 2 [(0, .ref (L 1 0))] := by rw [hx1.at hp30 (by decide)]; exact hl
  refine ww_stk (st1 := [.ref (L 50 (gN_ σ17 50)), .ref (L 1 0)]) (by rw [hx1.at hp30 (by decide), hx1.at hp31 (by decide)]) ?_
  have hx0 := hx0.trans hx1
  obtain ⟨hc36, hs⟩ := ww_chk hs
  have hpq : pr σ29 50 (gN_ σ17 50) := (pr_dy hc35 rfl rfl)
  rw [hc36] at hpq
  obtain ⟨σ37, e38, hs⟩ := ww_let hs
  refine ww_markF (d := (1, 50, 0)) hx hb hts hown (hnm.trans rfl) hW 1 0 1 0 (pr_dy hc33 rfl rfl) (tgd_1 hpq) (obv_0 rfl) rfl (by decide) (Nat.le_of_ble_eq_true rfl) in_X1 tyX1_ok nmX1 rfl (Nat.le_of_ble_eq_true rfl) (hts _ q360) (fun _ h => h) rfl rfl rfl (fun _ => rfl) (fun _ => rfl) (by rw [hc36]; rfl) dX1_init_21 (fun H locs hW => ?_)
  have hW : wv g L σ37 s H locs := by rw [e38]; exact hW
  obtain ⟨hx0, hcs⟩ := lx_s (σ1 := σ37) hx0 hcs (by rw [e38]; exact (kp_M (by decide)))
  have hc39 : 0 < gN_ σ37 1 := by rw [e38]; exact hc33
  have hc40 : (gN_ σ 10) < gN_ σ37 10 := by rw [e38]; exact hc34
  have hc41 : (gN_ σ17 50) < gN_ σ37 50 := by rw [e38]; exact hc35
  refine lv_aload_n hx hb dX1_init_24 rfl (lv_at hl 0 rfl) ?_
  have hp42 : pr σ37 1 0 := (pr_dy hc39 rfl rfl)
  obtain ⟨σ43, e44, hs⟩ := ww_let hs
  obtain ⟨hs, hck⟩ := ww_ck1 hs
  have hrm1 := hcs.room (σ1 := σ43) (a := 1) (b := 9) (by rw [e44]; rfl) (by rw [e44]; rfl) hck
  refine ww_newo (ci := 1) hx hb hts in_X2 tyX2 tyX2_ok hown (hts _ q161) (hts _ q162) (hts _ q112) hW 50 0 (obv_0 rfl) rfl df_50 (Nat.le_of_ble_eq_true rfl) rfl sole_50 (Or.inr hgm) (Or.inl hgm) hrm1.1 hrm1.2 dX1_init_25 (fun H L hx1 hW => ?_)
  rw [← e44] at hx1 hW
  have hcs := hcs.more (σ1 := σ43) (a := 1) (b := 9) (by rw [e44]; rfl) (by rw [e44]; rfl)
  have hrm := hrm1
  have hc45 : 0 < gN_ σ43 1 := Nat.lt_of_lt_of_le hc39 (hx1.2.1 1)
  have hc46 : (gN_ σ 10) < gN_ σ43 10 := Nat.lt_of_lt_of_le hc40 (hx1.2.1 10)
  have hc47 : (gN_ σ17 50) < gN_ σ43 50 := Nat.lt_of_lt_of_le hc41 (hx1.2.1 50)
  have hc48 : gN_ σ37 50 < gN_ σ43 50 := by rw [e44]; exact nO_lt rfl
  rw [show ow_ 50 = 50 from rfl]
  have hl : lv_has ls 2 [(0, .ref (L 1 0))] := by rw [hx1.at hp42 (by decide)]; exact hl
  refine ww_stk (st1 := [.ref (L 50 (gN_ σ37 50)), .ref (L 1 0)]) (by rw [hx1.at hp42 (by decide)]) ?_
  have hx0 := hx0.trans hx1
  refine lv_dup hx hb dX1_init_28 rfl ?_
  obtain ⟨σ51, hc49, hs⟩ := ww_bnd hs
  have hp52 : pr σ43 1 0 := (pr_dy hc45 rfl rfl)
  have hp53 : pr σ43 50 (gN_ σ37 50) := (pr_dy hc48 rfl rfl)
  obtain ⟨hc54, hs⟩ := ww_chk hs
  obtain ⟨hs, hck⟩ := ww_ck1 hs
  have hrm1 := hcs.roomC hc54 hck
  refine wa_cv (va_runIN (As := []) (rest := [.ref (L 50 (gN_ σ37 50)), .ref (L 1 0)]) ⟨hx, hb, hml, hown, hts⟩ (c_X2_init g hgm l L σ43 (gN_ σ37 50) _ hc49) ⟨va_cnB 0 hts (lw_meth q165) rfl rfl rfl (hW.nw 0 rfl) (hts _ q112) hd_X2_init.2 ⟨(Nat.le_of_ble_eq_true rfl), (Nat.le_of_ble_eq_true rfl)⟩, rfl, hts _ q164⟩ (ww_preS hW) rfl rfl hl.1 rfl (lv_room (Nat.le_of_ble_eq_true rfl)) dX1_init_29 hrm1) hW (fun H locs L hx1 hW => ?_)
  have hc55 : 0 < gN_ σ51 1 := Nat.lt_of_lt_of_le hc45 (hx1.2.1 1)
  have hc56 : (gN_ σ 10) < gN_ σ51 10 := Nat.lt_of_lt_of_le hc46 (hx1.2.1 10)
  have hc57 : (gN_ σ17 50) < gN_ σ51 50 := Nat.lt_of_lt_of_le hc47 (hx1.2.1 50)
  have hc58 : (gN_ σ37 50) < gN_ σ51 50 := Nat.lt_of_lt_of_le hc48 (hx1.2.1 50)
  have hcs := hcs.call hc54
  have hrm := hrm1
  have hl : lv_has ls 2 [(0, .ref (L 1 0))] := by rw [hx1.at hp52 (by decide)]; exact hl
  refine ww_stk (st1 := [.ref (L 50 (gN_ σ37 50)), .ref (L 1 0)]) (by rw [hx1.at hp52 (by decide), hx1.at hp53 (by decide)]) ?_
  have hx0 := hx0.trans hx1
  obtain ⟨hc59, hs⟩ := ww_chk hs
  have hpq : pr σ51 50 (gN_ σ37 50) := (pr_dy hc58 rfl rfl)
  rw [hc59] at hpq
  obtain ⟨σ60, e61, hs⟩ := ww_let hs
  refine ww_markF (d := (1, 50, 1)) hx hb hts hown (hnm.trans rfl) hW 1 0 2 0 (pr_dy hc55 rfl rfl) (tgd_1 hpq) (obv_0 rfl) rfl (by decide) (Nat.le_of_ble_eq_true rfl) in_X1 tyX1_ok nmX1 rfl (Nat.le_of_ble_eq_true rfl) (hts _ q361) (fun _ h => h) rfl rfl rfl (fun _ => rfl) (fun _ => rfl) (by rw [hc59]; rfl) dX1_init_32 (fun H locs hW => ?_)
  have hW : wv g L σ60 s H locs := by rw [e61]; exact hW
  obtain ⟨hx0, hcs⟩ := lx_s (σ1 := σ60) hx0 hcs (by rw [e61]; exact (kp_M (by decide)))
  have hc62 : 0 < gN_ σ60 1 := by rw [e61]; exact hc55
  have hc63 : (gN_ σ 10) < gN_ σ60 10 := by rw [e61]; exact hc56
  have hc64 : (gN_ σ17 50) < gN_ σ60 50 := by rw [e61]; exact hc57
  have hc65 : (gN_ σ37 50) < gN_ σ60 50 := by rw [e61]; exact hc58
  refine lv_aload_n hx hb dX1_init_35 rfl (lv_at hl 0 rfl) ?_
  have hp66 : pr σ60 1 0 := (pr_dy hc62 rfl rfl)
  obtain ⟨σ67, e68, hs⟩ := ww_let hs
  obtain ⟨hs, hck⟩ := ww_ck1 hs
  have hrm1 := hcs.room (σ1 := σ67) (a := 1) (b := 9) (by rw [e68]; rfl) (by rw [e68]; rfl) hck
  refine ww_newo (ci := 1) hx hb hts in_X2 tyX2 tyX2_ok hown (hts _ q161) (hts _ q162) (hts _ q112) hW 50 0 (obv_0 rfl) rfl df_50 (Nat.le_of_ble_eq_true rfl) rfl sole_50 (Or.inr hgm) (Or.inl hgm) hrm1.1 hrm1.2 dX1_init_36 (fun H L hx1 hW => ?_)
  rw [← e68] at hx1 hW
  have hcs := hcs.more (σ1 := σ67) (a := 1) (b := 9) (by rw [e68]; rfl) (by rw [e68]; rfl)
  have hrm := hrm1
  have hc69 : 0 < gN_ σ67 1 := Nat.lt_of_lt_of_le hc62 (hx1.2.1 1)
  have hc70 : (gN_ σ 10) < gN_ σ67 10 := Nat.lt_of_lt_of_le hc63 (hx1.2.1 10)
  have hc71 : (gN_ σ17 50) < gN_ σ67 50 := Nat.lt_of_lt_of_le hc64 (hx1.2.1 50)
  have hc72 : (gN_ σ37 50) < gN_ σ67 50 := Nat.lt_of_lt_of_le hc65 (hx1.2.1 50)
  have hc73 : gN_ σ60 50 < gN_ σ67 50 := by rw [e68]; exact nO_lt rfl
  rw [show ow_ 50 = 50 from rfl]
  have hl : lv_has ls 2 [(0, .ref (L 1 0))] := by rw [hx1.at hp66 (by decide)]; exact hl
  refine ww_stk (st1 := [.ref (L 50 (gN_ σ60 50)), .ref (L 1 0)]) (by rw [hx1.at hp66 (by decide)]) ?_
  have hx0 := hx0.trans hx1
  refine lv_dup hx hb dX1_init_39 rfl ?_
  obtain ⟨σ76, hc74, hs⟩ := ww_bnd hs
  have hp77 : pr σ67 1 0 := (pr_dy hc69 rfl rfl)
  have hp78 : pr σ67 50 (gN_ σ60 50) := (pr_dy hc73 rfl rfl)
  obtain ⟨hc79, hs⟩ := ww_chk hs
  obtain ⟨hs, hck⟩ := ww_ck1 hs
  have hrm1 := hcs.roomC hc79 hck
  refine wa_cv (va_runIN (As := []) (rest := [.ref (L 50 (gN_ σ60 50)), .ref (L 1 0)]) ⟨hx, hb, hml, hown, hts⟩ (c_X2_init g hgm l L σ67 (gN_ σ60 50) _ hc74) ⟨va_cnB 0 hts (lw_meth q165) rfl rfl rfl (hW.nw 0 rfl) (hts _ q112) hd_X2_init.2 ⟨(Nat.le_of_ble_eq_true rfl), (Nat.le_of_ble_eq_true rfl)⟩, rfl, hts _ q164⟩ (ww_preS hW) rfl rfl hl.1 rfl (lv_room (Nat.le_of_ble_eq_true rfl)) dX1_init_40 hrm1) hW (fun H locs L hx1 hW => ?_)
  have hc80 : 0 < gN_ σ76 1 := Nat.lt_of_lt_of_le hc69 (hx1.2.1 1)
  have hc81 : (gN_ σ 10) < gN_ σ76 10 := Nat.lt_of_lt_of_le hc70 (hx1.2.1 10)
  have hc82 : (gN_ σ17 50) < gN_ σ76 50 := Nat.lt_of_lt_of_le hc71 (hx1.2.1 50)
  have hc83 : (gN_ σ37 50) < gN_ σ76 50 := Nat.lt_of_lt_of_le hc72 (hx1.2.1 50)
  have hc84 : (gN_ σ60 50) < gN_ σ76 50 := Nat.lt_of_lt_of_le hc73 (hx1.2.1 50)
  have hcs := hcs.call hc79
  have hrm := hrm1
  have hl : lv_has ls 2 [(0, .ref (L 1 0))] := by rw [hx1.at hp77 (by decide)]; exact hl
  refine ww_stk (st1 := [.ref (L 50 (gN_ σ60 50)), .ref (L 1 0)]) (by rw [hx1.at hp77 (by decide), hx1.at hp78 (by decide)]) ?_
  have hx0 := hx0.trans hx1
  obtain ⟨hc85, hs⟩ := ww_chk hs
  have hpq : pr σ76 50 (gN_ σ60 50) := (pr_dy hc84 rfl rfl)
  rw [hc85] at hpq
  obtain ⟨σ86, e87, hs⟩ := ww_let hs
  refine ww_markF (d := (1, 50, 2)) hx hb hts hown (hnm.trans rfl) hW 1 0 3 0 (pr_dy hc80 rfl rfl) (tgd_1 hpq) (obv_0 rfl) rfl (by decide) (Nat.le_of_ble_eq_true rfl) in_X1 tyX1_ok nmX1 rfl (Nat.le_of_ble_eq_true rfl) (hts _ q362) (fun _ h => h) rfl rfl rfl (fun _ => rfl) (fun _ => rfl) (by rw [hc85]; rfl) dX1_init_43 (fun H locs hW => ?_)
  have hW : wv g L σ86 s H locs := by rw [e87]; exact hW
  obtain ⟨hx0, hcs⟩ := lx_s (σ1 := σ86) hx0 hcs (by rw [e87]; exact (kp_M (by decide)))
  have hc88 : 0 < gN_ σ86 1 := by rw [e87]; exact hc80
  have hc89 : (gN_ σ 10) < gN_ σ86 10 := by rw [e87]; exact hc81
  have hc90 : (gN_ σ17 50) < gN_ σ86 50 := by rw [e87]; exact hc82
  have hc91 : (gN_ σ37 50) < gN_ σ86 50 := by rw [e87]; exact hc83
  have hc92 : (gN_ σ60 50) < gN_ σ86 50 := by rw [e87]; exact hc84
  refine lv_aload_n hx hb dX1_init_46 rfl (lv_at hl 0 rfl) ?_
  have hp93 : pr σ86 1 0 := (pr_dy hc88 rfl rfl)
  obtain ⟨σ94, e95, hs⟩ := ww_let hs
  obtain ⟨hs, hck⟩ := ww_ck1 hs
  have hrm1 := hcs.room (σ1 := σ94) (a := 1) (b := 4) (by rw [e95]; rfl) (by rw [e95]; rfl) hck
  refine ww_newo (ci := 2) hx hb hts in_X3 tyX3 tyX3_ok hown (hts _ q202) (hts _ q203) (hts _ q113) hW 60 0 (obv_0 rfl) rfl df_60 (Nat.le_of_ble_eq_true rfl) rfl sole_60 (Or.inr hgm) (Or.inl hgm) hrm1.1 hrm1.2 dX1_init_47 (fun H L hx1 hW => ?_)
  rw [← e95] at hx1 hW
  have hcs := hcs.more (σ1 := σ94) (a := 1) (b := 4) (by rw [e95]; rfl) (by rw [e95]; rfl)
  have hrm := hrm1
  have hc96 : 0 < gN_ σ94 1 := Nat.lt_of_lt_of_le hc88 (hx1.2.1 1)
  have hc97 : (gN_ σ 10) < gN_ σ94 10 := Nat.lt_of_lt_of_le hc89 (hx1.2.1 10)
  have hc98 : (gN_ σ17 50) < gN_ σ94 50 := Nat.lt_of_lt_of_le hc90 (hx1.2.1 50)
  have hc99 : (gN_ σ37 50) < gN_ σ94 50 := Nat.lt_of_lt_of_le hc91 (hx1.2.1 50)
  have hc100 : (gN_ σ60 50) < gN_ σ94 50 := Nat.lt_of_lt_of_le hc92 (hx1.2.1 50)
  have hc101 : gN_ σ86 60 < gN_ σ94 60 := by rw [e95]; exact nO_lt rfl
  rw [show ow_ 60 = 60 from rfl]
  have hl : lv_has ls 2 [(0, .ref (L 1 0))] := by rw [hx1.at hp93 (by decide)]; exact hl
  refine ww_stk (st1 := [.ref (L 60 (gN_ σ86 60)), .ref (L 1 0)]) (by rw [hx1.at hp93 (by decide)]) ?_
  have hx0 := hx0.trans hx1
  refine lv_dup hx hb dX1_init_50 rfl ?_
  obtain ⟨σ104, hc102, hs⟩ := ww_bnd hs
  have hp105 : pr σ94 1 0 := (pr_dy hc96 rfl rfl)
  have hp106 : pr σ94 60 (gN_ σ86 60) := (pr_dy hc101 rfl rfl)
  obtain ⟨hc107, hs⟩ := ww_chk hs
  obtain ⟨hs, hck⟩ := ww_ck1 hs
  have hrm1 := hcs.roomC hc107 hck
  refine wa_cv (va_runIN (As := []) (rest := [.ref (L 60 (gN_ σ86 60)), .ref (L 1 0)]) ⟨hx, hb, hml, hown, hts⟩ (c_X3_init g hgm l L σ94 (gN_ σ86 60) _ hc102) ⟨va_cnB 0 hts (lw_meth q206) rfl rfl rfl (hW.nw 6 rfl) (hts _ q113) hd_X3_init.2 ⟨(Nat.le_of_ble_eq_true rfl), (Nat.le_of_ble_eq_true rfl)⟩, rfl, hts _ q205⟩ (ww_preS hW) rfl rfl hl.1 rfl (lv_room (Nat.le_of_ble_eq_true rfl)) dX1_init_51 hrm1) hW (fun H locs L hx1 hW => ?_)
  have hc108 : 0 < gN_ σ104 1 := Nat.lt_of_lt_of_le hc96 (hx1.2.1 1)
  have hc109 : (gN_ σ 10) < gN_ σ104 10 := Nat.lt_of_lt_of_le hc97 (hx1.2.1 10)
  have hc110 : (gN_ σ17 50) < gN_ σ104 50 := Nat.lt_of_lt_of_le hc98 (hx1.2.1 50)
  have hc111 : (gN_ σ37 50) < gN_ σ104 50 := Nat.lt_of_lt_of_le hc99 (hx1.2.1 50)
  have hc112 : (gN_ σ60 50) < gN_ σ104 50 := Nat.lt_of_lt_of_le hc100 (hx1.2.1 50)
  have hc113 : (gN_ σ86 60) < gN_ σ104 60 := Nat.lt_of_lt_of_le hc101 (hx1.2.1 60)
  have hcs := hcs.call hc107
  have hrm := hrm1
  have hl : lv_has ls 2 [(0, .ref (L 1 0))] := by rw [hx1.at hp105 (by decide)]; exact hl
  refine ww_stk (st1 := [.ref (L 60 (gN_ σ86 60)), .ref (L 1 0)]) (by rw [hx1.at hp105 (by decide), hx1.at hp106 (by decide)]) ?_
  have hx0 := hx0.trans hx1
  obtain ⟨hc114, hs⟩ := ww_chk hs
  have hpq : pr σ104 60 (gN_ σ86 60) := (pr_dy hc113 rfl rfl)
  rw [hc114] at hpq
  obtain ⟨σ115, e116, hs⟩ := ww_let hs
  refine ww_markF (d := (1, 60, 0)) hx hb hts hown (hnm.trans rfl) hW 1 0 4 0 (pr_dy hc108 rfl rfl) (tgd_1 hpq) (obv_0 rfl) rfl (by decide) (Nat.le_of_ble_eq_true rfl) in_X1 tyX1_ok nmX1 rfl (Nat.le_of_ble_eq_true rfl) (hts _ q363) (fun _ h => h) rfl rfl rfl (fun _ => rfl) (fun _ => rfl) (by rw [hc114]; rfl) dX1_init_54 (fun H locs hW => ?_)
  have hW : wv g L σ115 s H locs := by rw [e116]; exact hW
  obtain ⟨hx0, hcs⟩ := lx_s (σ1 := σ115) hx0 hcs (by rw [e116]; exact (kp_M (by decide)))
  have hc117 : 0 < gN_ σ115 1 := by rw [e116]; exact hc108
  have hc118 : (gN_ σ 10) < gN_ σ115 10 := by rw [e116]; exact hc109
  have hc119 : (gN_ σ17 50) < gN_ σ115 50 := by rw [e116]; exact hc110
  have hc120 : (gN_ σ37 50) < gN_ σ115 50 := by rw [e116]; exact hc111
  have hc121 : (gN_ σ60 50) < gN_ σ115 50 := by rw [e116]; exact hc112
  have hc122 : (gN_ σ86 60) < gN_ σ115 60 := by rw [e116]; exact hc113
  refine lv_aload_n hx hb dX1_init_57 rfl (lv_at hl 0 rfl) ?_
  have hp123 : pr σ115 1 0 := (pr_dy hc117 rfl rfl)
  obtain ⟨σ124, e125, hs⟩ := ww_let hs
  obtain ⟨hs, hck⟩ := ww_ck1 hs
  have hrm1 := hcs.room (σ1 := σ124) (a := 1) (b := 2) (by rw [e125]; rfl) (by rw [e125]; rfl) hck
  refine ww_newo (ci := 3) hx hb hts in_X4 tyX4 tyX4_ok hown (hts _ q225) (hts _ q226) (hts _ q114) hW 65 0 (obv_0 rfl) rfl df_65 (Nat.le_of_ble_eq_true rfl) rfl sole_65 (Or.inr hgm) (Or.inl hgm) hrm1.1 hrm1.2 dX1_init_58 (fun H L hx1 hW => ?_)
  rw [← e125] at hx1 hW
  have hcs := hcs.more (σ1 := σ124) (a := 1) (b := 2) (by rw [e125]; rfl) (by rw [e125]; rfl)
  have hrm := hrm1
  have hc126 : 0 < gN_ σ124 1 := Nat.lt_of_lt_of_le hc117 (hx1.2.1 1)
  have hc127 : (gN_ σ 10) < gN_ σ124 10 := Nat.lt_of_lt_of_le hc118 (hx1.2.1 10)
  have hc128 : (gN_ σ17 50) < gN_ σ124 50 := Nat.lt_of_lt_of_le hc119 (hx1.2.1 50)
  have hc129 : (gN_ σ37 50) < gN_ σ124 50 := Nat.lt_of_lt_of_le hc120 (hx1.2.1 50)
  have hc130 : (gN_ σ60 50) < gN_ σ124 50 := Nat.lt_of_lt_of_le hc121 (hx1.2.1 50)
  have hc131 : (gN_ σ86 60) < gN_ σ124 60 := Nat.lt_of_lt_of_le hc122 (hx1.2.1 60)
  have hc132 : gN_ σ115 65 < gN_ σ124 65 := by rw [e125]; exact nO_lt rfl
  rw [show ow_ 65 = 65 from rfl]
  have hl : lv_has ls 2 [(0, .ref (L 1 0))] := by rw [hx1.at hp123 (by decide)]; exact hl
  refine ww_stk (st1 := [.ref (L 65 (gN_ σ115 65)), .ref (L 1 0)]) (by rw [hx1.at hp123 (by decide)]) ?_
  have hx0 := hx0.trans hx1
  refine lv_dup hx hb dX1_init_61 rfl ?_
  obtain ⟨σ135, hc133, hs⟩ := ww_bnd hs
  have hp136 : pr σ124 1 0 := (pr_dy hc126 rfl rfl)
  have hp137 : pr σ124 65 (gN_ σ115 65) := (pr_dy hc132 rfl rfl)
  obtain ⟨hc138, hs⟩ := ww_chk hs
  obtain ⟨hs, hck⟩ := ww_ck1 hs
  have hrm1 := hcs.roomC hc138 hck
  refine wa_cv (va_runIN (As := []) (rest := [.ref (L 65 (gN_ σ115 65)), .ref (L 1 0)]) ⟨hx, hb, hml, hown, hts⟩ (c_X4_init g hgm l L σ124 (gN_ σ115 65) _ hc133) ⟨va_cnB 0 hts (lw_meth q229) rfl rfl rfl (hW.nw 10 rfl) (hts _ q114) hd_X4_init.2 ⟨(Nat.le_of_ble_eq_true rfl), (Nat.le_of_ble_eq_true rfl)⟩, rfl, hts _ q228⟩ (ww_preS hW) rfl rfl hl.1 rfl (lv_room (Nat.le_of_ble_eq_true rfl)) dX1_init_62 hrm1) hW (fun H locs L hx1 hW => ?_)
  have hc139 : 0 < gN_ σ135 1 := Nat.lt_of_lt_of_le hc126 (hx1.2.1 1)
  have hc140 : (gN_ σ 10) < gN_ σ135 10 := Nat.lt_of_lt_of_le hc127 (hx1.2.1 10)
  have hc141 : (gN_ σ17 50) < gN_ σ135 50 := Nat.lt_of_lt_of_le hc128 (hx1.2.1 50)
  have hc142 : (gN_ σ37 50) < gN_ σ135 50 := Nat.lt_of_lt_of_le hc129 (hx1.2.1 50)
  have hc143 : (gN_ σ60 50) < gN_ σ135 50 := Nat.lt_of_lt_of_le hc130 (hx1.2.1 50)
  have hc144 : (gN_ σ86 60) < gN_ σ135 60 := Nat.lt_of_lt_of_le hc131 (hx1.2.1 60)
  have hc145 : (gN_ σ115 65) < gN_ σ135 65 := Nat.lt_of_lt_of_le hc132 (hx1.2.1 65)
  have hcs := hcs.call hc138
  have hrm := hrm1
  have hl : lv_has ls 2 [(0, .ref (L 1 0))] := by rw [hx1.at hp136 (by decide)]; exact hl
  refine ww_stk (st1 := [.ref (L 65 (gN_ σ115 65)), .ref (L 1 0)]) (by rw [hx1.at hp136 (by decide), hx1.at hp137 (by decide)]) ?_
  have hx0 := hx0.trans hx1
  obtain ⟨hc146, hs⟩ := ww_chk hs
  have hpq : pr σ135 65 (gN_ σ115 65) := (pr_dy hc145 rfl rfl)
  rw [hc146] at hpq
  obtain ⟨σ147, e148, hs⟩ := ww_let hs
  refine ww_markF (d := (1, 65, 0)) hx hb hts hown (hnm.trans rfl) hW 1 0 5 0 (pr_dy hc139 rfl rfl) (tgd_1 hpq) (obv_0 rfl) rfl (by decide) (Nat.le_of_ble_eq_true rfl) in_X1 tyX1_ok nmX1 rfl (Nat.le_of_ble_eq_true rfl) (hts _ q364) (fun _ h => h) rfl rfl rfl (fun _ => rfl) (fun _ => rfl) (by rw [hc146]; rfl) dX1_init_65 (fun H locs hW => ?_)
  have hW : wv g L σ147 s H locs := by rw [e148]; exact hW
  obtain ⟨hx0, hcs⟩ := lx_s (σ1 := σ147) hx0 hcs (by rw [e148]; exact (kp_M (by decide)))
  have hc149 : 0 < gN_ σ147 1 := by rw [e148]; exact hc139
  have hc150 : (gN_ σ 10) < gN_ σ147 10 := by rw [e148]; exact hc140
  have hc151 : (gN_ σ17 50) < gN_ σ147 50 := by rw [e148]; exact hc141
  have hc152 : (gN_ σ37 50) < gN_ σ147 50 := by rw [e148]; exact hc142
  have hc153 : (gN_ σ60 50) < gN_ σ147 50 := by rw [e148]; exact hc143
  have hc154 : (gN_ σ86 60) < gN_ σ147 60 := by rw [e148]; exact hc144
  have hc155 : (gN_ σ115 65) < gN_ σ147 65 := by rw [e148]; exact hc145
  refine lv_aload_n hx hb dX1_init_68 rfl (lv_at hl 0 rfl) ?_
  have hp156 : pr σ147 1 0 := (pr_dy hc149 rfl rfl)
  obtain ⟨σ157, e158, hs⟩ := ww_let hs
  obtain ⟨hs, hck⟩ := ww_ck1 hs
  have hrm1 := hcs.room (σ1 := σ157) (a := 1) (b := 3) (by rw [e158]; rfl) (by rw [e158]; rfl) hck
  refine ww_newo (ci := 4) hx hb hts in_J2 tyJ2 tyJ2_ok hown (hts _ q239) (hts _ q240) (hts _ q117) hW 70 0 (obv_0 rfl) rfl df_70 (Nat.le_of_ble_eq_true rfl) rfl sole_70 (Or.inr hgm) (Or.inl hgm) hrm1.1 hrm1.2 dX1_init_69 (fun H L hx1 hW => ?_)
  rw [← e158] at hx1 hW
  have hcs := hcs.more (σ1 := σ157) (a := 1) (b := 3) (by rw [e158]; rfl) (by rw [e158]; rfl)
  have hrm := hrm1
  have hc159 : 0 < gN_ σ157 1 := Nat.lt_of_lt_of_le hc149 (hx1.2.1 1)
  have hc160 : (gN_ σ 10) < gN_ σ157 10 := Nat.lt_of_lt_of_le hc150 (hx1.2.1 10)
  have hc161 : (gN_ σ17 50) < gN_ σ157 50 := Nat.lt_of_lt_of_le hc151 (hx1.2.1 50)
  have hc162 : (gN_ σ37 50) < gN_ σ157 50 := Nat.lt_of_lt_of_le hc152 (hx1.2.1 50)
  have hc163 : (gN_ σ60 50) < gN_ σ157 50 := Nat.lt_of_lt_of_le hc153 (hx1.2.1 50)
  have hc164 : (gN_ σ86 60) < gN_ σ157 60 := Nat.lt_of_lt_of_le hc154 (hx1.2.1 60)
  have hc165 : (gN_ σ115 65) < gN_ σ157 65 := Nat.lt_of_lt_of_le hc155 (hx1.2.1 65)
  have hc166 : gN_ σ147 70 < gN_ σ157 70 := by rw [e158]; exact nO_lt rfl
  rw [show ow_ 70 = 70 from rfl]
  have hl : lv_has ls 2 [(0, .ref (L 1 0))] := by rw [hx1.at hp156 (by decide)]; exact hl
  refine ww_stk (st1 := [.ref (L 70 (gN_ σ147 70)), .ref (L 1 0)]) (by rw [hx1.at hp156 (by decide)]) ?_
  have hx0 := hx0.trans hx1
  refine lv_dup hx hb dX1_init_72 rfl ?_
  obtain ⟨σ167, e168, hs⟩ := ww_let hs
  refine ww_cv (va_runI (As := []) (rest := [.ref (L 70 (gN_ σ147 70)), .ref (L 1 0)]) ⟨hx, hb, hml, hown, hts⟩ (c_AL_init g l L σ157 70 (gN_ σ147 70) 71 80 lst_70 (pr_dy hc166 rfl rfl)) (cwI 0 hts (lw_meth q243) rfl rfl rfl (hts _ q117) (hts _ q241) (hts _ q242) rfl hd_J2_init.2 ⟨(Nat.le_of_ble_eq_true rfl), (Nat.le_of_ble_eq_true rfl)⟩) (ww_preS hW) rfl rfl hl.1 rfl (lv_room (Nat.le_of_ble_eq_true rfl)) dX1_init_73 hrm) hW (fun H locs hW => ?_)
  have hW : wv g L σ167 s H locs := by rw [e168]; exact hW
  obtain ⟨hx0, hcs⟩ := lx_s (σ1 := σ167) hx0 hcs (by rw [e168]; exact (kp_I (by decide)))
  have hc169 : 0 < gN_ σ167 1 := by rw [e168]; exact hc159
  have hc170 : (gN_ σ 10) < gN_ σ167 10 := by rw [e168]; exact hc160
  have hc171 : (gN_ σ17 50) < gN_ σ167 50 := by rw [e168]; exact hc161
  have hc172 : (gN_ σ37 50) < gN_ σ167 50 := by rw [e168]; exact hc162
  have hc173 : (gN_ σ60 50) < gN_ σ167 50 := by rw [e168]; exact hc163
  have hc174 : (gN_ σ86 60) < gN_ σ167 60 := by rw [e168]; exact hc164
  have hc175 : (gN_ σ115 65) < gN_ σ167 65 := by rw [e168]; exact hc165
  have hc176 : (gN_ σ147 70) < gN_ σ167 70 := by rw [e168]; exact hc166
  obtain ⟨hc177, hs⟩ := ww_chk hs
  have hpq : pr σ167 70 (gN_ σ147 70) := (pr_dy hc176 rfl rfl)
  rw [hc177] at hpq
  obtain ⟨σ178, e179, hs⟩ := ww_let hs
  refine ww_markF (d := (1, 70, 0)) hx hb hts hown (hnm.trans rfl) hW 1 0 6 0 (pr_dy hc169 rfl rfl) (tgd_1 hpq) (obv_0 rfl) rfl (by decide) (Nat.le_of_ble_eq_true rfl) in_X1 tyX1_ok nmX1 rfl (Nat.le_of_ble_eq_true rfl) (hts _ q365) (fun _ h => h) rfl rfl rfl (fun _ => rfl) (fun _ => rfl) (by rw [hc177]; rfl) dX1_init_76 (fun H locs hW => ?_)
  have hW : wv g L σ178 s H locs := by rw [e179]; exact hW
  obtain ⟨hx0, hcs⟩ := lx_s (σ1 := σ178) hx0 hcs (by rw [e179]; exact (kp_M (by decide)))
  have hc180 : 0 < gN_ σ178 1 := by rw [e179]; exact hc169
  have hc181 : (gN_ σ 10) < gN_ σ178 10 := by rw [e179]; exact hc170
  have hc182 : (gN_ σ17 50) < gN_ σ178 50 := by rw [e179]; exact hc171
  have hc183 : (gN_ σ37 50) < gN_ σ178 50 := by rw [e179]; exact hc172
  have hc184 : (gN_ σ60 50) < gN_ σ178 50 := by rw [e179]; exact hc173
  have hc185 : (gN_ σ86 60) < gN_ σ178 60 := by rw [e179]; exact hc174
  have hc186 : (gN_ σ115 65) < gN_ σ178 65 := by rw [e179]; exact hc175
  have hc187 : (gN_ σ147 70) < gN_ σ178 70 := by rw [e179]; exact hc176
  refine lv_aload_n hx hb dX1_init_79 rfl (lv_at hl 0 rfl) ?_
  have hp188 : pr σ178 1 0 := (pr_dy hc180 rfl rfl)
  obtain ⟨σ189, e190, hs⟩ := ww_let hs
  obtain ⟨hs, hck⟩ := ww_ck1 hs
  have hrm1 := hcs.room (σ1 := σ189) (a := 1) (b := 3) (by rw [e190]; rfl) (by rw [e190]; rfl) hck
  refine ww_newo (ci := 4) hx hb hts in_J2 tyJ2 tyJ2_ok hown (hts _ q239) (hts _ q240) (hts _ q117) hW 72 0 (obv_0 rfl) rfl df_72 (Nat.le_of_ble_eq_true rfl) rfl sole_72 (Or.inr hgm) (Or.inl hgm) hrm1.1 hrm1.2 dX1_init_80 (fun H L hx1 hW => ?_)
  rw [← e190] at hx1 hW
  have hcs := hcs.more (σ1 := σ189) (a := 1) (b := 3) (by rw [e190]; rfl) (by rw [e190]; rfl)
  have hrm := hrm1
  have hc191 : 0 < gN_ σ189 1 := Nat.lt_of_lt_of_le hc180 (hx1.2.1 1)
  have hc192 : (gN_ σ 10) < gN_ σ189 10 := Nat.lt_of_lt_of_le hc181 (hx1.2.1 10)
  have hc193 : (gN_ σ17 50) < gN_ σ189 50 := Nat.lt_of_lt_of_le hc182 (hx1.2.1 50)
  have hc194 : (gN_ σ37 50) < gN_ σ189 50 := Nat.lt_of_lt_of_le hc183 (hx1.2.1 50)
  have hc195 : (gN_ σ60 50) < gN_ σ189 50 := Nat.lt_of_lt_of_le hc184 (hx1.2.1 50)
  have hc196 : (gN_ σ86 60) < gN_ σ189 60 := Nat.lt_of_lt_of_le hc185 (hx1.2.1 60)
  have hc197 : (gN_ σ115 65) < gN_ σ189 65 := Nat.lt_of_lt_of_le hc186 (hx1.2.1 65)
  have hc198 : (gN_ σ147 70) < gN_ σ189 70 := Nat.lt_of_lt_of_le hc187 (hx1.2.1 70)
  have hc199 : gN_ σ178 72 < gN_ σ189 72 := by rw [e190]; exact nO_lt rfl
  rw [show ow_ 72 = 72 from rfl]
  have hl : lv_has ls 2 [(0, .ref (L 1 0))] := by rw [hx1.at hp188 (by decide)]; exact hl
  refine ww_stk (st1 := [.ref (L 72 (gN_ σ178 72)), .ref (L 1 0)]) (by rw [hx1.at hp188 (by decide)]) ?_
  have hx0 := hx0.trans hx1
  refine lv_dup hx hb dX1_init_83 rfl ?_
  obtain ⟨σ200, e201, hs⟩ := ww_let hs
  refine ww_cv (va_runI (As := []) (rest := [.ref (L 72 (gN_ σ178 72)), .ref (L 1 0)]) ⟨hx, hb, hml, hown, hts⟩ (c_AL_init g l L σ189 72 (gN_ σ178 72) 73 83 lst_72 (pr_dy hc199 rfl rfl)) (cwI 0 hts (lw_meth q243) rfl rfl rfl (hts _ q117) (hts _ q241) (hts _ q242) rfl hd_J2_init.2 ⟨(Nat.le_of_ble_eq_true rfl), (Nat.le_of_ble_eq_true rfl)⟩) (ww_preS hW) rfl rfl hl.1 rfl (lv_room (Nat.le_of_ble_eq_true rfl)) dX1_init_84 hrm) hW (fun H locs hW => ?_)
  have hW : wv g L σ200 s H locs := by rw [e201]; exact hW
  obtain ⟨hx0, hcs⟩ := lx_s (σ1 := σ200) hx0 hcs (by rw [e201]; exact (kp_I (by decide)))
  have hc202 : 0 < gN_ σ200 1 := by rw [e201]; exact hc191
  have hc203 : (gN_ σ 10) < gN_ σ200 10 := by rw [e201]; exact hc192
  have hc204 : (gN_ σ17 50) < gN_ σ200 50 := by rw [e201]; exact hc193
  have hc205 : (gN_ σ37 50) < gN_ σ200 50 := by rw [e201]; exact hc194
  have hc206 : (gN_ σ60 50) < gN_ σ200 50 := by rw [e201]; exact hc195
  have hc207 : (gN_ σ86 60) < gN_ σ200 60 := by rw [e201]; exact hc196
  have hc208 : (gN_ σ115 65) < gN_ σ200 65 := by rw [e201]; exact hc197
  have hc209 : (gN_ σ147 70) < gN_ σ200 70 := by rw [e201]; exact hc198
  have hc210 : (gN_ σ178 72) < gN_ σ200 72 := by rw [e201]; exact hc199
  obtain ⟨hc211, hs⟩ := ww_chk hs
  have hpq : pr σ200 72 (gN_ σ178 72) := (pr_dy hc210 rfl rfl)
  rw [hc211] at hpq
  obtain ⟨σ212, e213, hs⟩ := ww_let hs
  refine ww_markF (d := (1, 72, 0)) hx hb hts hown (hnm.trans rfl) hW 1 0 7 0 (pr_dy hc202 rfl rfl) (tgd_1 hpq) (obv_0 rfl) rfl (by decide) (Nat.le_of_ble_eq_true rfl) in_X1 tyX1_ok nmX1 rfl (Nat.le_of_ble_eq_true rfl) (hts _ q366) (fun _ h => h) rfl rfl rfl (fun _ => rfl) (fun _ => rfl) (by rw [hc211]; rfl) dX1_init_87 (fun H locs hW => ?_)
  have hW : wv g L σ212 s H locs := by rw [e213]; exact hW
  obtain ⟨hx0, hcs⟩ := lx_s (σ1 := σ212) hx0 hcs (by rw [e213]; exact (kp_M (by decide)))
  have hc214 : 0 < gN_ σ212 1 := by rw [e213]; exact hc202
  have hc215 : (gN_ σ 10) < gN_ σ212 10 := by rw [e213]; exact hc203
  have hc216 : (gN_ σ17 50) < gN_ σ212 50 := by rw [e213]; exact hc204
  have hc217 : (gN_ σ37 50) < gN_ σ212 50 := by rw [e213]; exact hc205
  have hc218 : (gN_ σ60 50) < gN_ σ212 50 := by rw [e213]; exact hc206
  have hc219 : (gN_ σ86 60) < gN_ σ212 60 := by rw [e213]; exact hc207
  have hc220 : (gN_ σ115 65) < gN_ σ212 65 := by rw [e213]; exact hc208
  have hc221 : (gN_ σ147 70) < gN_ σ212 70 := by rw [e213]; exact hc209
  have hc222 : (gN_ σ178 72) < gN_ σ212 72 := by rw [e213]; exact hc210
  refine lv_aload_n hx hb dX1_init_90 rfl (lv_at hl 0 rfl) ?_
  have hp223 : pr σ212 1 0 := (pr_dy hc214 rfl rfl)
  obtain ⟨σ224, e225, hs⟩ := ww_let hs
  obtain ⟨hs, hck⟩ := ww_ck1 hs
  have hrm1 := hcs.room (σ1 := σ224) (a := 1) (b := 3) (by rw [e225]; rfl) (by rw [e225]; rfl) hck
  refine ww_newo (ci := 4) hx hb hts in_J2 tyJ2 tyJ2_ok hown (hts _ q239) (hts _ q240) (hts _ q117) hW 74 0 (obv_0 rfl) rfl df_74 (Nat.le_of_ble_eq_true rfl) rfl sole_74 (Or.inr hgm) (Or.inl hgm) hrm1.1 hrm1.2 dX1_init_91 (fun H L hx1 hW => ?_)
  rw [← e225] at hx1 hW
  have hcs := hcs.more (σ1 := σ224) (a := 1) (b := 3) (by rw [e225]; rfl) (by rw [e225]; rfl)
  have hrm := hrm1
  have hc226 : 0 < gN_ σ224 1 := Nat.lt_of_lt_of_le hc214 (hx1.2.1 1)
  have hc227 : (gN_ σ 10) < gN_ σ224 10 := Nat.lt_of_lt_of_le hc215 (hx1.2.1 10)
  have hc228 : (gN_ σ17 50) < gN_ σ224 50 := Nat.lt_of_lt_of_le hc216 (hx1.2.1 50)
  have hc229 : (gN_ σ37 50) < gN_ σ224 50 := Nat.lt_of_lt_of_le hc217 (hx1.2.1 50)
  have hc230 : (gN_ σ60 50) < gN_ σ224 50 := Nat.lt_of_lt_of_le hc218 (hx1.2.1 50)
  have hc231 : (gN_ σ86 60) < gN_ σ224 60 := Nat.lt_of_lt_of_le hc219 (hx1.2.1 60)
  have hc232 : (gN_ σ115 65) < gN_ σ224 65 := Nat.lt_of_lt_of_le hc220 (hx1.2.1 65)
  have hc233 : (gN_ σ147 70) < gN_ σ224 70 := Nat.lt_of_lt_of_le hc221 (hx1.2.1 70)
  have hc234 : (gN_ σ178 72) < gN_ σ224 72 := Nat.lt_of_lt_of_le hc222 (hx1.2.1 72)
  have hc235 : gN_ σ212 74 < gN_ σ224 74 := by rw [e225]; exact nO_lt rfl
  rw [show ow_ 74 = 74 from rfl]
  have hl : lv_has ls 2 [(0, .ref (L 1 0))] := by rw [hx1.at hp223 (by decide)]; exact hl
  refine ww_stk (st1 := [.ref (L 74 (gN_ σ212 74)), .ref (L 1 0)]) (by rw [hx1.at hp223 (by decide)]) ?_
  have hx0 := hx0.trans hx1
  refine lv_dup hx hb dX1_init_94 rfl ?_
  obtain ⟨σ236, e237, hs⟩ := ww_let hs
  refine ww_cv (va_runI (As := []) (rest := [.ref (L 74 (gN_ σ212 74)), .ref (L 1 0)]) ⟨hx, hb, hml, hown, hts⟩ (c_AL_init g l L σ224 74 (gN_ σ212 74) 75 85 lst_74 (pr_dy hc235 rfl rfl)) (cwI 0 hts (lw_meth q243) rfl rfl rfl (hts _ q117) (hts _ q241) (hts _ q242) rfl hd_J2_init.2 ⟨(Nat.le_of_ble_eq_true rfl), (Nat.le_of_ble_eq_true rfl)⟩) (ww_preS hW) rfl rfl hl.1 rfl (lv_room (Nat.le_of_ble_eq_true rfl)) dX1_init_95 hrm) hW (fun H locs hW => ?_)
  have hW : wv g L σ236 s H locs := by rw [e237]; exact hW
  obtain ⟨hx0, hcs⟩ := lx_s (σ1 := σ236) hx0 hcs (by rw [e237]; exact (kp_I (by decide)))
  have hc238 : 0 < gN_ σ236 1 := by rw [e237]; exact hc226
  have hc239 : (gN_ σ 10) < gN_ σ236 10 := by rw [e237]; exact hc227
  have hc240 : (gN_ σ17 50) < gN_ σ236 50 := by rw [e237]; exact hc228
  have hc241 : (gN_ σ37 50) < gN_ σ236 50 := by rw [e237]; exact hc229
  have hc242 : (gN_ σ60 50) < gN_ σ236 50 := by rw [e237]; exact hc230
  have hc243 : (gN_ σ86 60) < gN_ σ236 60 := by rw [e237]; exact hc231
  have hc244 : (gN_ σ115 65) < gN_ σ236 65 := by rw [e237]; exact hc232
  have hc245 : (gN_ σ147 70) < gN_ σ236 70 := by rw [e237]; exact hc233
  have hc246 : (gN_ σ178 72) < gN_ σ236 72 := by rw [e237]; exact hc234
  have hc247 : (gN_ σ212 74) < gN_ σ236 74 := by rw [e237]; exact hc235
  obtain ⟨hc248, hs⟩ := ww_chk hs
  have hpq : pr σ236 74 (gN_ σ212 74) := (pr_dy hc247 rfl rfl)
  rw [hc248] at hpq
  obtain ⟨σ249, e250, hs⟩ := ww_let hs
  refine ww_markF (d := (1, 74, 0)) hx hb hts hown (hnm.trans rfl) hW 1 0 8 0 (pr_dy hc238 rfl rfl) (tgd_1 hpq) (obv_0 rfl) rfl (by decide) (Nat.le_of_ble_eq_true rfl) in_X1 tyX1_ok nmX1 rfl (Nat.le_of_ble_eq_true rfl) (hts _ q367) (fun _ h => h) rfl rfl rfl (fun _ => rfl) (fun _ => rfl) (by rw [hc248]; rfl) dX1_init_98 (fun H locs hW => ?_)
  have hW : wv g L σ249 s H locs := by rw [e250]; exact hW
  obtain ⟨hx0, hcs⟩ := lx_s (σ1 := σ249) hx0 hcs (by rw [e250]; exact (kp_M (by decide)))
  have hc251 : 0 < gN_ σ249 1 := by rw [e250]; exact hc238
  have hc252 : (gN_ σ 10) < gN_ σ249 10 := by rw [e250]; exact hc239
  have hc253 : (gN_ σ17 50) < gN_ σ249 50 := by rw [e250]; exact hc240
  have hc254 : (gN_ σ37 50) < gN_ σ249 50 := by rw [e250]; exact hc241
  have hc255 : (gN_ σ60 50) < gN_ σ249 50 := by rw [e250]; exact hc242
  have hc256 : (gN_ σ86 60) < gN_ σ249 60 := by rw [e250]; exact hc243
  have hc257 : (gN_ σ115 65) < gN_ σ249 65 := by rw [e250]; exact hc244
  have hc258 : (gN_ σ147 70) < gN_ σ249 70 := by rw [e250]; exact hc245
  have hc259 : (gN_ σ178 72) < gN_ σ249 72 := by rw [e250]; exact hc246
  have hc260 : (gN_ σ212 74) < gN_ σ249 74 := by rw [e250]; exact hc247
  refine lv_aload_n hx hb dX1_init_101 rfl (lv_at hl 0 rfl) ?_
  have hp261 : pr σ249 1 0 := (pr_dy hc251 rfl rfl)
  obtain ⟨σ262, e263, hs⟩ := ww_let hs
  obtain ⟨hs, hck⟩ := ww_ck1 hs
  have hrm1 := hcs.room (σ1 := σ262) (a := 1) (b := 3) (by rw [e263]; rfl) (by rw [e263]; rfl) hck
  refine ww_newo (ci := 4) hx hb hts in_J2 tyJ2 tyJ2_ok hown (hts _ q239) (hts _ q240) (hts _ q117) hW 76 0 (obv_0 rfl) rfl df_76 (Nat.le_of_ble_eq_true rfl) rfl sole_76 (Or.inr hgm) (Or.inl hgm) hrm1.1 hrm1.2 dX1_init_102 (fun H L hx1 hW => ?_)
  rw [← e263] at hx1 hW
  have hcs := hcs.more (σ1 := σ262) (a := 1) (b := 3) (by rw [e263]; rfl) (by rw [e263]; rfl)
  have hrm := hrm1
  have hc264 : 0 < gN_ σ262 1 := Nat.lt_of_lt_of_le hc251 (hx1.2.1 1)
  have hc265 : (gN_ σ 10) < gN_ σ262 10 := Nat.lt_of_lt_of_le hc252 (hx1.2.1 10)
  have hc266 : (gN_ σ17 50) < gN_ σ262 50 := Nat.lt_of_lt_of_le hc253 (hx1.2.1 50)
  have hc267 : (gN_ σ37 50) < gN_ σ262 50 := Nat.lt_of_lt_of_le hc254 (hx1.2.1 50)
  have hc268 : (gN_ σ60 50) < gN_ σ262 50 := Nat.lt_of_lt_of_le hc255 (hx1.2.1 50)
  have hc269 : (gN_ σ86 60) < gN_ σ262 60 := Nat.lt_of_lt_of_le hc256 (hx1.2.1 60)
  have hc270 : (gN_ σ115 65) < gN_ σ262 65 := Nat.lt_of_lt_of_le hc257 (hx1.2.1 65)
  have hc271 : (gN_ σ147 70) < gN_ σ262 70 := Nat.lt_of_lt_of_le hc258 (hx1.2.1 70)
  have hc272 : (gN_ σ178 72) < gN_ σ262 72 := Nat.lt_of_lt_of_le hc259 (hx1.2.1 72)
  have hc273 : (gN_ σ212 74) < gN_ σ262 74 := Nat.lt_of_lt_of_le hc260 (hx1.2.1 74)
  have hc274 : gN_ σ249 76 < gN_ σ262 76 := by rw [e263]; exact nO_lt rfl
  rw [show ow_ 76 = 76 from rfl]
  have hl : lv_has ls 2 [(0, .ref (L 1 0))] := by rw [hx1.at hp261 (by decide)]; exact hl
  refine ww_stk (st1 := [.ref (L 76 (gN_ σ249 76)), .ref (L 1 0)]) (by rw [hx1.at hp261 (by decide)]) ?_
  have hx0 := hx0.trans hx1
  refine lv_dup hx hb dX1_init_105 rfl ?_
  obtain ⟨σ275, e276, hs⟩ := ww_let hs
  refine ww_cv (va_runI (As := []) (rest := [.ref (L 76 (gN_ σ249 76)), .ref (L 1 0)]) ⟨hx, hb, hml, hown, hts⟩ (c_AL_init g l L σ262 76 (gN_ σ249 76) 77 86 lst_76 (pr_dy hc274 rfl rfl)) (cwI 0 hts (lw_meth q243) rfl rfl rfl (hts _ q117) (hts _ q241) (hts _ q242) rfl hd_J2_init.2 ⟨(Nat.le_of_ble_eq_true rfl), (Nat.le_of_ble_eq_true rfl)⟩) (ww_preS hW) rfl rfl hl.1 rfl (lv_room (Nat.le_of_ble_eq_true rfl)) dX1_init_106 hrm) hW (fun H locs hW => ?_)
  have hW : wv g L σ275 s H locs := by rw [e276]; exact hW
  obtain ⟨hx0, hcs⟩ := lx_s (σ1 := σ275) hx0 hcs (by rw [e276]; exact (kp_I (by decide)))
  have hc277 : 0 < gN_ σ275 1 := by rw [e276]; exact hc264
  have hc278 : (gN_ σ 10) < gN_ σ275 10 := by rw [e276]; exact hc265
  have hc279 : (gN_ σ17 50) < gN_ σ275 50 := by rw [e276]; exact hc266
  have hc280 : (gN_ σ37 50) < gN_ σ275 50 := by rw [e276]; exact hc267
  have hc281 : (gN_ σ60 50) < gN_ σ275 50 := by rw [e276]; exact hc268
  have hc282 : (gN_ σ86 60) < gN_ σ275 60 := by rw [e276]; exact hc269
  have hc283 : (gN_ σ115 65) < gN_ σ275 65 := by rw [e276]; exact hc270
  have hc284 : (gN_ σ147 70) < gN_ σ275 70 := by rw [e276]; exact hc271
  have hc285 : (gN_ σ178 72) < gN_ σ275 72 := by rw [e276]; exact hc272
  have hc286 : (gN_ σ212 74) < gN_ σ275 74 := by rw [e276]; exact hc273
  have hc287 : (gN_ σ249 76) < gN_ σ275 76 := by rw [e276]; exact hc274
  obtain ⟨hc288, hs⟩ := ww_chk hs
  have hpq : pr σ275 76 (gN_ σ249 76) := (pr_dy hc287 rfl rfl)
  rw [hc288] at hpq
  obtain ⟨σ289, e290, hs⟩ := ww_let hs
  refine ww_markF (d := (1, 76, 0)) hx hb hts hown (hnm.trans rfl) hW 1 0 9 0 (pr_dy hc277 rfl rfl) (tgd_1 hpq) (obv_0 rfl) rfl (by decide) (Nat.le_of_ble_eq_true rfl) in_X1 tyX1_ok nmX1 rfl (Nat.le_of_ble_eq_true rfl) (hts _ q368) (fun _ h => h) rfl rfl rfl (fun _ => rfl) (fun _ => rfl) (by rw [hc288]; rfl) dX1_init_109 (fun H locs hW => ?_)
  have hW : wv g L σ289 s H locs := by rw [e290]; exact hW
  obtain ⟨hx0, hcs⟩ := lx_s (σ1 := σ289) hx0 hcs (by rw [e290]; exact (kp_M (by decide)))
  have hc291 : 0 < gN_ σ289 1 := by rw [e290]; exact hc277
  have hc292 : (gN_ σ 10) < gN_ σ289 10 := by rw [e290]; exact hc278
  have hc293 : (gN_ σ17 50) < gN_ σ289 50 := by rw [e290]; exact hc279
  have hc294 : (gN_ σ37 50) < gN_ σ289 50 := by rw [e290]; exact hc280
  have hc295 : (gN_ σ60 50) < gN_ σ289 50 := by rw [e290]; exact hc281
  have hc296 : (gN_ σ86 60) < gN_ σ289 60 := by rw [e290]; exact hc282
  have hc297 : (gN_ σ115 65) < gN_ σ289 65 := by rw [e290]; exact hc283
  have hc298 : (gN_ σ147 70) < gN_ σ289 70 := by rw [e290]; exact hc284
  have hc299 : (gN_ σ178 72) < gN_ σ289 72 := by rw [e290]; exact hc285
  have hc300 : (gN_ σ212 74) < gN_ σ289 74 := by rw [e290]; exact hc286
  have hc301 : (gN_ σ249 76) < gN_ σ289 76 := by rw [e290]; exact hc287
  refine lv_aload_n hx hb dX1_init_112 rfl (lv_at hl 0 rfl) ?_
  refine lv_bipush (v := 10) hx hb dX1_init_113 (by decide) ?_
  have hp302 : pr σ289 1 0 := (pr_dy hc291 rfl rfl)
  obtain ⟨σ303, e304, hs⟩ := ww_let hs
  obtain ⟨hs, hck⟩ := ww_ck1 hs
  have hrm1 := hcs.room (σ1 := σ303) (a := 1) (b := 10) (by rw [e304]; rfl) (by rw [e304]; rfl) hck
  refine ww_newa (atype := .int) hx hb (hts _ q201) hW 20 0 10 (Or.inl rfl) sole_20 (Or.inr hgm) rfl rfl rfl (by decide) rfl (Nat.le_of_ble_eq_true rfl) hrm1.1 hrm1.2 dX1_init_115 (fun H L hx1 hW => ?_)
  rw [← e304] at hx1 hW
  have hcs := hcs.more (σ1 := σ303) (a := 1) (b := 10) (by rw [e304]; rfl) (by rw [e304]; rfl)
  have hrm := hrm1
  have hc305 : 0 < gN_ σ303 1 := Nat.lt_of_lt_of_le hc291 (hx1.2.1 1)
  have hc306 : (gN_ σ 10) < gN_ σ303 10 := Nat.lt_of_lt_of_le hc292 (hx1.2.1 10)
  have hc307 : (gN_ σ17 50) < gN_ σ303 50 := Nat.lt_of_lt_of_le hc293 (hx1.2.1 50)
  have hc308 : (gN_ σ37 50) < gN_ σ303 50 := Nat.lt_of_lt_of_le hc294 (hx1.2.1 50)
  have hc309 : (gN_ σ60 50) < gN_ σ303 50 := Nat.lt_of_lt_of_le hc295 (hx1.2.1 50)
  have hc310 : (gN_ σ86 60) < gN_ σ303 60 := Nat.lt_of_lt_of_le hc296 (hx1.2.1 60)
  have hc311 : (gN_ σ115 65) < gN_ σ303 65 := Nat.lt_of_lt_of_le hc297 (hx1.2.1 65)
  have hc312 : (gN_ σ147 70) < gN_ σ303 70 := Nat.lt_of_lt_of_le hc298 (hx1.2.1 70)
  have hc313 : (gN_ σ178 72) < gN_ σ303 72 := Nat.lt_of_lt_of_le hc299 (hx1.2.1 72)
  have hc314 : (gN_ σ212 74) < gN_ σ303 74 := Nat.lt_of_lt_of_le hc300 (hx1.2.1 74)
  have hc315 : (gN_ σ249 76) < gN_ σ303 76 := Nat.lt_of_lt_of_le hc301 (hx1.2.1 76)
  have hc316 : gN_ σ289 20 < gN_ σ303 20 := by rw [e304]; exact nA_lt rfl
  rw [show ow_ 20 = 20 from rfl]
  have hl : lv_has ls 2 [(0, .ref (L 1 0))] := by rw [hx1.at hp302 (by decide)]; exact hl
  refine ww_stk (st1 := [.ref (L 20 (gN_ σ289 20)), .ref (L 1 0)]) (by rw [hx1.at hp302 (by decide)]) ?_
  have hx0 := hx0.trans hx1
  obtain ⟨hc317, hs⟩ := ww_chk hs
  have hpq : pr σ303 20 (gN_ σ289 20) := (pr_dy hc316 rfl rfl)
  rw [hc317] at hpq
  obtain ⟨σ318, e319, hs⟩ := ww_let hs
  refine ww_markF (d := (1, 20, 0)) hx hb hts hown (hnm.trans rfl) hW 1 0 10 0 (pr_dy hc305 rfl rfl) (tgd_1 hpq) (obv_0 rfl) rfl (by decide) (Nat.le_of_ble_eq_true rfl) in_X1 tyX1_ok nmX1 rfl (Nat.le_of_ble_eq_true rfl) (hts _ q369) (fun _ h => h) rfl rfl rfl (fun _ => rfl) (fun _ => rfl) (by rw [hc317]; rfl) dX1_init_117 (fun H locs hW => ?_)
  have hW : wv g L σ318 s H locs := by rw [e319]; exact hW
  obtain ⟨hx0, hcs⟩ := lx_s (σ1 := σ318) hx0 hcs (by rw [e319]; exact (kp_M (by decide)))
  have hc320 : 0 < gN_ σ318 1 := by rw [e319]; exact hc305
  have hc321 : (gN_ σ 10) < gN_ σ318 10 := by rw [e319]; exact hc306
  have hc322 : (gN_ σ17 50) < gN_ σ318 50 := by rw [e319]; exact hc307
  have hc323 : (gN_ σ37 50) < gN_ σ318 50 := by rw [e319]; exact hc308
  have hc324 : (gN_ σ60 50) < gN_ σ318 50 := by rw [e319]; exact hc309
  have hc325 : (gN_ σ86 60) < gN_ σ318 60 := by rw [e319]; exact hc310
  have hc326 : (gN_ σ115 65) < gN_ σ318 65 := by rw [e319]; exact hc311
  have hc327 : (gN_ σ147 70) < gN_ σ318 70 := by rw [e319]; exact hc312
  have hc328 : (gN_ σ178 72) < gN_ σ318 72 := by rw [e319]; exact hc313
  have hc329 : (gN_ σ212 74) < gN_ σ318 74 := by rw [e319]; exact hc314
  have hc330 : (gN_ σ249 76) < gN_ σ318 76 := by rw [e319]; exact hc315
  have hc331 : (gN_ σ289 20) < gN_ σ318 20 := by rw [e319]; exact hc316
  refine lv_aload_n hx hb dX1_init_120 rfl (lv_at hl 0 rfl) ?_
  refine lv_bipush (v := 10) hx hb dX1_init_121 (by decide) ?_
  have hp332 : pr σ318 1 0 := (pr_dy hc320 rfl rfl)
  obtain ⟨σ333, e334, hs⟩ := ww_let hs
  obtain ⟨hs, hck⟩ := ww_ck1 hs
  have hrm1 := hcs.room (σ1 := σ333) (a := 1) (b := 10) (by rw [e334]; rfl) (by rw [e334]; rfl) hck
  refine ww_newa (atype := .int) hx hb (hts _ q201) hW 21 0 10 (Or.inl rfl) sole_21 (Or.inr hgm) rfl rfl rfl (by decide) rfl (Nat.le_of_ble_eq_true rfl) hrm1.1 hrm1.2 dX1_init_123 (fun H L hx1 hW => ?_)
  rw [← e334] at hx1 hW
  have hcs := hcs.more (σ1 := σ333) (a := 1) (b := 10) (by rw [e334]; rfl) (by rw [e334]; rfl)
  have hrm := hrm1
  have hc335 : 0 < gN_ σ333 1 := Nat.lt_of_lt_of_le hc320 (hx1.2.1 1)
  have hc336 : (gN_ σ 10) < gN_ σ333 10 := Nat.lt_of_lt_of_le hc321 (hx1.2.1 10)
  have hc337 : (gN_ σ17 50) < gN_ σ333 50 := Nat.lt_of_lt_of_le hc322 (hx1.2.1 50)
  have hc338 : (gN_ σ37 50) < gN_ σ333 50 := Nat.lt_of_lt_of_le hc323 (hx1.2.1 50)
  have hc339 : (gN_ σ60 50) < gN_ σ333 50 := Nat.lt_of_lt_of_le hc324 (hx1.2.1 50)
  have hc340 : (gN_ σ86 60) < gN_ σ333 60 := Nat.lt_of_lt_of_le hc325 (hx1.2.1 60)
  have hc341 : (gN_ σ115 65) < gN_ σ333 65 := Nat.lt_of_lt_of_le hc326 (hx1.2.1 65)
  have hc342 : (gN_ σ147 70) < gN_ σ333 70 := Nat.lt_of_lt_of_le hc327 (hx1.2.1 70)
  have hc343 : (gN_ σ178 72) < gN_ σ333 72 := Nat.lt_of_lt_of_le hc328 (hx1.2.1 72)
  have hc344 : (gN_ σ212 74) < gN_ σ333 74 := Nat.lt_of_lt_of_le hc329 (hx1.2.1 74)
  have hc345 : (gN_ σ249 76) < gN_ σ333 76 := Nat.lt_of_lt_of_le hc330 (hx1.2.1 76)
  have hc346 : (gN_ σ289 20) < gN_ σ333 20 := Nat.lt_of_lt_of_le hc331 (hx1.2.1 20)
  have hc347 : gN_ σ318 21 < gN_ σ333 21 := by rw [e334]; exact nA_lt rfl
  rw [show ow_ 21 = 21 from rfl]
  have hl : lv_has ls 2 [(0, .ref (L 1 0))] := by rw [hx1.at hp332 (by decide)]; exact hl
  refine ww_stk (st1 := [.ref (L 21 (gN_ σ318 21)), .ref (L 1 0)]) (by rw [hx1.at hp332 (by decide)]) ?_
  have hx0 := hx0.trans hx1
  obtain ⟨hc348, hs⟩ := ww_chk hs
  have hpq : pr σ333 21 (gN_ σ318 21) := (pr_dy hc347 rfl rfl)
  rw [hc348] at hpq
  obtain ⟨σ349, e350, hs⟩ := ww_let hs
  refine ww_markF (d := (1, 21, 0)) hx hb hts hown (hnm.trans rfl) hW 1 0 11 0 (pr_dy hc335 rfl rfl) (tgd_1 hpq) (obv_0 rfl) rfl (by decide) (Nat.le_of_ble_eq_true rfl) in_X1 tyX1_ok nmX1 rfl (Nat.le_of_ble_eq_true rfl) (hts _ q370) (fun _ h => h) rfl rfl rfl (fun _ => rfl) (fun _ => rfl) (by rw [hc348]; rfl) dX1_init_125 (fun H locs hW => ?_)
  have hW : wv g L σ349 s H locs := by rw [e350]; exact hW
  obtain ⟨hx0, hcs⟩ := lx_s (σ1 := σ349) hx0 hcs (by rw [e350]; exact (kp_M (by decide)))
  have hc351 : 0 < gN_ σ349 1 := by rw [e350]; exact hc335
  have hc352 : (gN_ σ 10) < gN_ σ349 10 := by rw [e350]; exact hc336
  have hc353 : (gN_ σ17 50) < gN_ σ349 50 := by rw [e350]; exact hc337
  have hc354 : (gN_ σ37 50) < gN_ σ349 50 := by rw [e350]; exact hc338
  have hc355 : (gN_ σ60 50) < gN_ σ349 50 := by rw [e350]; exact hc339
  have hc356 : (gN_ σ86 60) < gN_ σ349 60 := by rw [e350]; exact hc340
  have hc357 : (gN_ σ115 65) < gN_ σ349 65 := by rw [e350]; exact hc341
  have hc358 : (gN_ σ147 70) < gN_ σ349 70 := by rw [e350]; exact hc342
  have hc359 : (gN_ σ178 72) < gN_ σ349 72 := by rw [e350]; exact hc343
  have hc360 : (gN_ σ212 74) < gN_ σ349 74 := by rw [e350]; exact hc344
  have hc361 : (gN_ σ249 76) < gN_ σ349 76 := by rw [e350]; exact hc345
  have hc362 : (gN_ σ289 20) < gN_ σ349 20 := by rw [e350]; exact hc346
  have hc363 : (gN_ σ318 21) < gN_ σ349 21 := by rw [e350]; exact hc347
  refine lv_aload_n hx hb dX1_init_128 rfl (lv_at hl 0 rfl) ?_
  refine lv_bipush (v := 10) hx hb dX1_init_129 (by decide) ?_
  have hp364 : pr σ349 1 0 := (pr_dy hc351 rfl rfl)
  obtain ⟨σ365, e366, hs⟩ := ww_let hs
  obtain ⟨hs, hck⟩ := ww_ck1 hs
  have hrm1 := hcs.room (σ1 := σ365) (a := 1) (b := 10) (by rw [e366]; rfl) (by rw [e366]; rfl) hck
  refine ww_newa (atype := .int) hx hb (hts _ q201) hW 22 0 10 (Or.inl rfl) sole_22 (Or.inr hgm) rfl rfl rfl (by decide) rfl (Nat.le_of_ble_eq_true rfl) hrm1.1 hrm1.2 dX1_init_131 (fun H L hx1 hW => ?_)
  rw [← e366] at hx1 hW
  have hcs := hcs.more (σ1 := σ365) (a := 1) (b := 10) (by rw [e366]; rfl) (by rw [e366]; rfl)
  have hrm := hrm1
  have hc367 : 0 < gN_ σ365 1 := Nat.lt_of_lt_of_le hc351 (hx1.2.1 1)
  have hc368 : (gN_ σ 10) < gN_ σ365 10 := Nat.lt_of_lt_of_le hc352 (hx1.2.1 10)
  have hc369 : (gN_ σ17 50) < gN_ σ365 50 := Nat.lt_of_lt_of_le hc353 (hx1.2.1 50)
  have hc370 : (gN_ σ37 50) < gN_ σ365 50 := Nat.lt_of_lt_of_le hc354 (hx1.2.1 50)
  have hc371 : (gN_ σ60 50) < gN_ σ365 50 := Nat.lt_of_lt_of_le hc355 (hx1.2.1 50)
  have hc372 : (gN_ σ86 60) < gN_ σ365 60 := Nat.lt_of_lt_of_le hc356 (hx1.2.1 60)
  have hc373 : (gN_ σ115 65) < gN_ σ365 65 := Nat.lt_of_lt_of_le hc357 (hx1.2.1 65)
  have hc374 : (gN_ σ147 70) < gN_ σ365 70 := Nat.lt_of_lt_of_le hc358 (hx1.2.1 70)
  have hc375 : (gN_ σ178 72) < gN_ σ365 72 := Nat.lt_of_lt_of_le hc359 (hx1.2.1 72)
  have hc376 : (gN_ σ212 74) < gN_ σ365 74 := Nat.lt_of_lt_of_le hc360 (hx1.2.1 74)
  have hc377 : (gN_ σ249 76) < gN_ σ365 76 := Nat.lt_of_lt_of_le hc361 (hx1.2.1 76)
  have hc378 : (gN_ σ289 20) < gN_ σ365 20 := Nat.lt_of_lt_of_le hc362 (hx1.2.1 20)
  have hc379 : (gN_ σ318 21) < gN_ σ365 21 := Nat.lt_of_lt_of_le hc363 (hx1.2.1 21)
  have hc380 : gN_ σ349 22 < gN_ σ365 22 := by rw [e366]; exact nA_lt rfl
  rw [show ow_ 22 = 22 from rfl]
  have hl : lv_has ls 2 [(0, .ref (L 1 0))] := by rw [hx1.at hp364 (by decide)]; exact hl
  refine ww_stk (st1 := [.ref (L 22 (gN_ σ349 22)), .ref (L 1 0)]) (by rw [hx1.at hp364 (by decide)]) ?_
  have hx0 := hx0.trans hx1
  obtain ⟨hc381, hs⟩ := ww_chk hs
  have hpq : pr σ365 22 (gN_ σ349 22) := (pr_dy hc380 rfl rfl)
  rw [hc381] at hpq
  obtain ⟨σ382, e383, hs⟩ := ww_let hs
  refine ww_markF (d := (1, 22, 0)) hx hb hts hown (hnm.trans rfl) hW 1 0 12 0 (pr_dy hc367 rfl rfl) (tgd_1 hpq) (obv_0 rfl) rfl (by decide) (Nat.le_of_ble_eq_true rfl) in_X1 tyX1_ok nmX1 rfl (Nat.le_of_ble_eq_true rfl) (hts _ q371) (fun _ h => h) rfl rfl rfl (fun _ => rfl) (fun _ => rfl) (by rw [hc381]; rfl) dX1_init_133 (fun H locs hW => ?_)
  have hW : wv g L σ382 s H locs := by rw [e383]; exact hW
  obtain ⟨hx0, hcs⟩ := lx_s (σ1 := σ382) hx0 hcs (by rw [e383]; exact (kp_M (by decide)))
  have hc384 : 0 < gN_ σ382 1 := by rw [e383]; exact hc367
  have hc385 : (gN_ σ 10) < gN_ σ382 10 := by rw [e383]; exact hc368
  have hc386 : (gN_ σ17 50) < gN_ σ382 50 := by rw [e383]; exact hc369
  have hc387 : (gN_ σ37 50) < gN_ σ382 50 := by rw [e383]; exact hc370
  have hc388 : (gN_ σ60 50) < gN_ σ382 50 := by rw [e383]; exact hc371
  have hc389 : (gN_ σ86 60) < gN_ σ382 60 := by rw [e383]; exact hc372
  have hc390 : (gN_ σ115 65) < gN_ σ382 65 := by rw [e383]; exact hc373
  have hc391 : (gN_ σ147 70) < gN_ σ382 70 := by rw [e383]; exact hc374
  have hc392 : (gN_ σ178 72) < gN_ σ382 72 := by rw [e383]; exact hc375
  have hc393 : (gN_ σ212 74) < gN_ σ382 74 := by rw [e383]; exact hc376
  have hc394 : (gN_ σ249 76) < gN_ σ382 76 := by rw [e383]; exact hc377
  have hc395 : (gN_ σ289 20) < gN_ σ382 20 := by rw [e383]; exact hc378
  have hc396 : (gN_ σ318 21) < gN_ σ382 21 := by rw [e383]; exact hc379
  have hc397 : (gN_ σ349 22) < gN_ σ382 22 := by rw [e383]; exact hc380
  refine lv_aload_n hx hb dX1_init_136 rfl (lv_at hl 0 rfl) ?_
  refine lv_bipush (v := 10) hx hb dX1_init_137 (by decide) ?_
  have hp398 : pr σ382 1 0 := (pr_dy hc384 rfl rfl)
  obtain ⟨σ399, e400, hs⟩ := ww_let hs
  obtain ⟨hs, hck⟩ := ww_ck1 hs
  have hrm1 := hcs.room (σ1 := σ399) (a := 1) (b := 10) (by rw [e400]; rfl) (by rw [e400]; rfl) hck
  refine ww_newa (atype := .int) hx hb (hts _ q201) hW 23 0 10 (Or.inl rfl) sole_23 (Or.inr hgm) rfl rfl rfl (by decide) rfl (Nat.le_of_ble_eq_true rfl) hrm1.1 hrm1.2 dX1_init_139 (fun H L hx1 hW => ?_)
  rw [← e400] at hx1 hW
  have hcs := hcs.more (σ1 := σ399) (a := 1) (b := 10) (by rw [e400]; rfl) (by rw [e400]; rfl)
  have hrm := hrm1
  have hc401 : 0 < gN_ σ399 1 := Nat.lt_of_lt_of_le hc384 (hx1.2.1 1)
  have hc402 : (gN_ σ 10) < gN_ σ399 10 := Nat.lt_of_lt_of_le hc385 (hx1.2.1 10)
  have hc403 : (gN_ σ17 50) < gN_ σ399 50 := Nat.lt_of_lt_of_le hc386 (hx1.2.1 50)
  have hc404 : (gN_ σ37 50) < gN_ σ399 50 := Nat.lt_of_lt_of_le hc387 (hx1.2.1 50)
  have hc405 : (gN_ σ60 50) < gN_ σ399 50 := Nat.lt_of_lt_of_le hc388 (hx1.2.1 50)
  have hc406 : (gN_ σ86 60) < gN_ σ399 60 := Nat.lt_of_lt_of_le hc389 (hx1.2.1 60)
  have hc407 : (gN_ σ115 65) < gN_ σ399 65 := Nat.lt_of_lt_of_le hc390 (hx1.2.1 65)
  have hc408 : (gN_ σ147 70) < gN_ σ399 70 := Nat.lt_of_lt_of_le hc391 (hx1.2.1 70)
  have hc409 : (gN_ σ178 72) < gN_ σ399 72 := Nat.lt_of_lt_of_le hc392 (hx1.2.1 72)
  have hc410 : (gN_ σ212 74) < gN_ σ399 74 := Nat.lt_of_lt_of_le hc393 (hx1.2.1 74)
  have hc411 : (gN_ σ249 76) < gN_ σ399 76 := Nat.lt_of_lt_of_le hc394 (hx1.2.1 76)
  have hc412 : (gN_ σ289 20) < gN_ σ399 20 := Nat.lt_of_lt_of_le hc395 (hx1.2.1 20)
  have hc413 : (gN_ σ318 21) < gN_ σ399 21 := Nat.lt_of_lt_of_le hc396 (hx1.2.1 21)
  have hc414 : (gN_ σ349 22) < gN_ σ399 22 := Nat.lt_of_lt_of_le hc397 (hx1.2.1 22)
  have hc415 : gN_ σ382 23 < gN_ σ399 23 := by rw [e400]; exact nA_lt rfl
  rw [show ow_ 23 = 23 from rfl]
  have hl : lv_has ls 2 [(0, .ref (L 1 0))] := by rw [hx1.at hp398 (by decide)]; exact hl
  refine ww_stk (st1 := [.ref (L 23 (gN_ σ382 23)), .ref (L 1 0)]) (by rw [hx1.at hp398 (by decide)]) ?_
  have hx0 := hx0.trans hx1
  obtain ⟨hc416, hs⟩ := ww_chk hs
  have hpq : pr σ399 23 (gN_ σ382 23) := (pr_dy hc415 rfl rfl)
  rw [hc416] at hpq
  obtain ⟨σ417, e418, hs⟩ := ww_let hs
  refine ww_markF (d := (1, 23, 0)) hx hb hts hown (hnm.trans rfl) hW 1 0 13 0 (pr_dy hc401 rfl rfl) (tgd_1 hpq) (obv_0 rfl) rfl (by decide) (Nat.le_of_ble_eq_true rfl) in_X1 tyX1_ok nmX1 rfl (Nat.le_of_ble_eq_true rfl) (hts _ q373) (fun _ h => h) rfl rfl rfl (fun _ => rfl) (fun _ => rfl) (by rw [hc416]; rfl) dX1_init_141 (fun H locs hW => ?_)
  have hW : wv g L σ417 s H locs := by rw [e418]; exact hW
  obtain ⟨hx0, hcs⟩ := lx_s (σ1 := σ417) hx0 hcs (by rw [e418]; exact (kp_M (by decide)))
  have hc419 : 0 < gN_ σ417 1 := by rw [e418]; exact hc401
  have hc420 : (gN_ σ 10) < gN_ σ417 10 := by rw [e418]; exact hc402
  have hc421 : (gN_ σ17 50) < gN_ σ417 50 := by rw [e418]; exact hc403
  have hc422 : (gN_ σ37 50) < gN_ σ417 50 := by rw [e418]; exact hc404
  have hc423 : (gN_ σ60 50) < gN_ σ417 50 := by rw [e418]; exact hc405
  have hc424 : (gN_ σ86 60) < gN_ σ417 60 := by rw [e418]; exact hc406
  have hc425 : (gN_ σ115 65) < gN_ σ417 65 := by rw [e418]; exact hc407
  have hc426 : (gN_ σ147 70) < gN_ σ417 70 := by rw [e418]; exact hc408
  have hc427 : (gN_ σ178 72) < gN_ σ417 72 := by rw [e418]; exact hc409
  have hc428 : (gN_ σ212 74) < gN_ σ417 74 := by rw [e418]; exact hc410
  have hc429 : (gN_ σ249 76) < gN_ σ417 76 := by rw [e418]; exact hc411
  have hc430 : (gN_ σ289 20) < gN_ σ417 20 := by rw [e418]; exact hc412
  have hc431 : (gN_ σ318 21) < gN_ σ417 21 := by rw [e418]; exact hc413
  have hc432 : (gN_ σ349 22) < gN_ σ417 22 := by rw [e418]; exact hc414
  have hc433 : (gN_ σ382 23) < gN_ σ417 23 := by rw [e418]; exact hc415
  refine lv_aload_n hx hb dX1_init_144 rfl (lv_at hl 0 rfl) ?_
  refine lv_bipush (v := 12) hx hb dX1_init_145 (by decide) ?_
  have hp434 : pr σ417 1 0 := (pr_dy hc419 rfl rfl)
  obtain ⟨σ435, e436, hs⟩ := ww_let hs
  obtain ⟨hs, hck⟩ := ww_ck1 hs
  have hrm1 := hcs.room (σ1 := σ435) (a := 1) (b := 12) (by rw [e436]; rfl) (by rw [e436]; rfl) hck
  refine ww_newa (atype := .int) hx hb (hts _ q201) hW 24 0 12 (Or.inl rfl) sole_24 (Or.inr hgm) rfl rfl rfl (by decide) rfl (Nat.le_of_ble_eq_true rfl) hrm1.1 hrm1.2 dX1_init_147 (fun H L hx1 hW => ?_)
  rw [← e436] at hx1 hW
  have hcs := hcs.more (σ1 := σ435) (a := 1) (b := 12) (by rw [e436]; rfl) (by rw [e436]; rfl)
  have hrm := hrm1
  have hc437 : 0 < gN_ σ435 1 := Nat.lt_of_lt_of_le hc419 (hx1.2.1 1)
  have hc438 : (gN_ σ 10) < gN_ σ435 10 := Nat.lt_of_lt_of_le hc420 (hx1.2.1 10)
  have hc439 : (gN_ σ17 50) < gN_ σ435 50 := Nat.lt_of_lt_of_le hc421 (hx1.2.1 50)
  have hc440 : (gN_ σ37 50) < gN_ σ435 50 := Nat.lt_of_lt_of_le hc422 (hx1.2.1 50)
  have hc441 : (gN_ σ60 50) < gN_ σ435 50 := Nat.lt_of_lt_of_le hc423 (hx1.2.1 50)
  have hc442 : (gN_ σ86 60) < gN_ σ435 60 := Nat.lt_of_lt_of_le hc424 (hx1.2.1 60)
  have hc443 : (gN_ σ115 65) < gN_ σ435 65 := Nat.lt_of_lt_of_le hc425 (hx1.2.1 65)
  have hc444 : (gN_ σ147 70) < gN_ σ435 70 := Nat.lt_of_lt_of_le hc426 (hx1.2.1 70)
  have hc445 : (gN_ σ178 72) < gN_ σ435 72 := Nat.lt_of_lt_of_le hc427 (hx1.2.1 72)
  have hc446 : (gN_ σ212 74) < gN_ σ435 74 := Nat.lt_of_lt_of_le hc428 (hx1.2.1 74)
  have hc447 : (gN_ σ249 76) < gN_ σ435 76 := Nat.lt_of_lt_of_le hc429 (hx1.2.1 76)
  have hc448 : (gN_ σ289 20) < gN_ σ435 20 := Nat.lt_of_lt_of_le hc430 (hx1.2.1 20)
  have hc449 : (gN_ σ318 21) < gN_ σ435 21 := Nat.lt_of_lt_of_le hc431 (hx1.2.1 21)
  have hc450 : (gN_ σ349 22) < gN_ σ435 22 := Nat.lt_of_lt_of_le hc432 (hx1.2.1 22)
  have hc451 : (gN_ σ382 23) < gN_ σ435 23 := Nat.lt_of_lt_of_le hc433 (hx1.2.1 23)
  have hc452 : gN_ σ417 24 < gN_ σ435 24 := by rw [e436]; exact nA_lt rfl
  rw [show ow_ 24 = 24 from rfl]
  have hl : lv_has ls 2 [(0, .ref (L 1 0))] := by rw [hx1.at hp434 (by decide)]; exact hl
  refine ww_stk (st1 := [.ref (L 24 (gN_ σ417 24)), .ref (L 1 0)]) (by rw [hx1.at hp434 (by decide)]) ?_
  have hx0 := hx0.trans hx1
  obtain ⟨hc453, hs⟩ := ww_chk hs
  have hpq : pr σ435 24 (gN_ σ417 24) := (pr_dy hc452 rfl rfl)
  rw [hc453] at hpq
  obtain ⟨σ454, e455, hs⟩ := ww_let hs
  refine ww_markF (d := (1, 24, 0)) hx hb hts hown (hnm.trans rfl) hW 1 0 14 0 (pr_dy hc437 rfl rfl) (tgd_1 hpq) (obv_0 rfl) rfl (by decide) (Nat.le_of_ble_eq_true rfl) in_X1 tyX1_ok nmX1 rfl (Nat.le_of_ble_eq_true rfl) (hts _ q374) (fun _ h => h) rfl rfl rfl (fun _ => rfl) (fun _ => rfl) (by rw [hc453]; rfl) dX1_init_149 (fun H locs hW => ?_)
  have hW : wv g L σ454 s H locs := by rw [e455]; exact hW
  obtain ⟨hx0, hcs⟩ := lx_s (σ1 := σ454) hx0 hcs (by rw [e455]; exact (kp_M (by decide)))
  have hc456 : 0 < gN_ σ454 1 := by rw [e455]; exact hc437
  have hc457 : (gN_ σ 10) < gN_ σ454 10 := by rw [e455]; exact hc438
  have hc458 : (gN_ σ17 50) < gN_ σ454 50 := by rw [e455]; exact hc439
  have hc459 : (gN_ σ37 50) < gN_ σ454 50 := by rw [e455]; exact hc440
  have hc460 : (gN_ σ60 50) < gN_ σ454 50 := by rw [e455]; exact hc441
  have hc461 : (gN_ σ86 60) < gN_ σ454 60 := by rw [e455]; exact hc442
  have hc462 : (gN_ σ115 65) < gN_ σ454 65 := by rw [e455]; exact hc443
  have hc463 : (gN_ σ147 70) < gN_ σ454 70 := by rw [e455]; exact hc444
  have hc464 : (gN_ σ178 72) < gN_ σ454 72 := by rw [e455]; exact hc445
  have hc465 : (gN_ σ212 74) < gN_ σ454 74 := by rw [e455]; exact hc446
  have hc466 : (gN_ σ249 76) < gN_ σ454 76 := by rw [e455]; exact hc447
  have hc467 : (gN_ σ289 20) < gN_ σ454 20 := by rw [e455]; exact hc448
  have hc468 : (gN_ σ318 21) < gN_ σ454 21 := by rw [e455]; exact hc449
  have hc469 : (gN_ σ349 22) < gN_ σ454 22 := by rw [e455]; exact hc450
  have hc470 : (gN_ σ382 23) < gN_ σ454 23 := by rw [e455]; exact hc451
  have hc471 : (gN_ σ417 24) < gN_ σ454 24 := by rw [e455]; exact hc452
  refine lv_aload_n hx hb dX1_init_152 rfl (lv_at hl 0 rfl) ?_
  refine lv_iconst (v := 2) hx hb dX1_init_153 (by decide) ?_
  have hp472 : pr σ454 1 0 := (pr_dy hc456 rfl rfl)
  obtain ⟨σ473, e474, hs⟩ := ww_let hs
  obtain ⟨hs, hck⟩ := ww_ck1 hs
  have hrm1 := hcs.room (σ1 := σ473) (a := 1) (b := 2) (by rw [e474]; rfl) (by rw [e474]; rfl) hck
  refine ww_newa (atype := .int) hx hb (hts _ q201) hW 25 0 2 (Or.inl rfl) sole_25 (Or.inr hgm) rfl rfl rfl (by decide) rfl (Nat.le_of_ble_eq_true rfl) hrm1.1 hrm1.2 dX1_init_154 (fun H L hx1 hW => ?_)
  rw [← e474] at hx1 hW
  have hcs := hcs.more (σ1 := σ473) (a := 1) (b := 2) (by rw [e474]; rfl) (by rw [e474]; rfl)
  have hrm := hrm1
  have hc475 : 0 < gN_ σ473 1 := Nat.lt_of_lt_of_le hc456 (hx1.2.1 1)
  have hc476 : (gN_ σ 10) < gN_ σ473 10 := Nat.lt_of_lt_of_le hc457 (hx1.2.1 10)
  have hc477 : (gN_ σ17 50) < gN_ σ473 50 := Nat.lt_of_lt_of_le hc458 (hx1.2.1 50)
  have hc478 : (gN_ σ37 50) < gN_ σ473 50 := Nat.lt_of_lt_of_le hc459 (hx1.2.1 50)
  have hc479 : (gN_ σ60 50) < gN_ σ473 50 := Nat.lt_of_lt_of_le hc460 (hx1.2.1 50)
  have hc480 : (gN_ σ86 60) < gN_ σ473 60 := Nat.lt_of_lt_of_le hc461 (hx1.2.1 60)
  have hc481 : (gN_ σ115 65) < gN_ σ473 65 := Nat.lt_of_lt_of_le hc462 (hx1.2.1 65)
  have hc482 : (gN_ σ147 70) < gN_ σ473 70 := Nat.lt_of_lt_of_le hc463 (hx1.2.1 70)
  have hc483 : (gN_ σ178 72) < gN_ σ473 72 := Nat.lt_of_lt_of_le hc464 (hx1.2.1 72)
  have hc484 : (gN_ σ212 74) < gN_ σ473 74 := Nat.lt_of_lt_of_le hc465 (hx1.2.1 74)
  have hc485 : (gN_ σ249 76) < gN_ σ473 76 := Nat.lt_of_lt_of_le hc466 (hx1.2.1 76)
  have hc486 : (gN_ σ289 20) < gN_ σ473 20 := Nat.lt_of_lt_of_le hc467 (hx1.2.1 20)
  have hc487 : (gN_ σ318 21) < gN_ σ473 21 := Nat.lt_of_lt_of_le hc468 (hx1.2.1 21)
  have hc488 : (gN_ σ349 22) < gN_ σ473 22 := Nat.lt_of_lt_of_le hc469 (hx1.2.1 22)
  have hc489 : (gN_ σ382 23) < gN_ σ473 23 := Nat.lt_of_lt_of_le hc470 (hx1.2.1 23)
  have hc490 : (gN_ σ417 24) < gN_ σ473 24 := Nat.lt_of_lt_of_le hc471 (hx1.2.1 24)
  have hc491 : gN_ σ454 25 < gN_ σ473 25 := by rw [e474]; exact nA_lt rfl
  rw [show ow_ 25 = 25 from rfl]
  have hl : lv_has ls 2 [(0, .ref (L 1 0))] := by rw [hx1.at hp472 (by decide)]; exact hl
  refine ww_stk (st1 := [.ref (L 25 (gN_ σ454 25)), .ref (L 1 0)]) (by rw [hx1.at hp472 (by decide)]) ?_
  have hx0 := hx0.trans hx1
  obtain ⟨hc492, hs⟩ := ww_chk hs
  have hpq : pr σ473 25 (gN_ σ454 25) := (pr_dy hc491 rfl rfl)
  rw [hc492] at hpq
  obtain ⟨σ493, e494, hs⟩ := ww_let hs
  refine ww_markF (d := (1, 25, 0)) hx hb hts hown (hnm.trans rfl) hW 1 0 15 0 (pr_dy hc475 rfl rfl) (tgd_1 hpq) (obv_0 rfl) rfl (by decide) (Nat.le_of_ble_eq_true rfl) in_X1 tyX1_ok nmX1 rfl (Nat.le_of_ble_eq_true rfl) (hts _ q375) (fun _ h => h) rfl rfl rfl (fun _ => rfl) (fun _ => rfl) (by rw [hc492]; rfl) dX1_init_156 (fun H locs hW => ?_)
  have hW : wv g L σ493 s H locs := by rw [e494]; exact hW
  obtain ⟨hx0, hcs⟩ := lx_s (σ1 := σ493) hx0 hcs (by rw [e494]; exact (kp_M (by decide)))
  have hc495 : 0 < gN_ σ493 1 := by rw [e494]; exact hc475
  have hc496 : (gN_ σ 10) < gN_ σ493 10 := by rw [e494]; exact hc476
  have hc497 : (gN_ σ17 50) < gN_ σ493 50 := by rw [e494]; exact hc477
  have hc498 : (gN_ σ37 50) < gN_ σ493 50 := by rw [e494]; exact hc478
  have hc499 : (gN_ σ60 50) < gN_ σ493 50 := by rw [e494]; exact hc479
  have hc500 : (gN_ σ86 60) < gN_ σ493 60 := by rw [e494]; exact hc480
  have hc501 : (gN_ σ115 65) < gN_ σ493 65 := by rw [e494]; exact hc481
  have hc502 : (gN_ σ147 70) < gN_ σ493 70 := by rw [e494]; exact hc482
  have hc503 : (gN_ σ178 72) < gN_ σ493 72 := by rw [e494]; exact hc483
  have hc504 : (gN_ σ212 74) < gN_ σ493 74 := by rw [e494]; exact hc484
  have hc505 : (gN_ σ249 76) < gN_ σ493 76 := by rw [e494]; exact hc485
  have hc506 : (gN_ σ289 20) < gN_ σ493 20 := by rw [e494]; exact hc486
  have hc507 : (gN_ σ318 21) < gN_ σ493 21 := by rw [e494]; exact hc487
  have hc508 : (gN_ σ349 22) < gN_ σ493 22 := by rw [e494]; exact hc488
  have hc509 : (gN_ σ382 23) < gN_ σ493 23 := by rw [e494]; exact hc489
  have hc510 : (gN_ σ417 24) < gN_ σ493 24 := by rw [e494]; exact hc490
  have hc511 : (gN_ σ454 25) < gN_ σ493 25 := by rw [e494]; exact hc491
  refine lv_aload_n hx hb dX1_init_159 rfl (lv_at hl 0 rfl) ?_
  refine lv_bipush (v := 64) hx hb dX1_init_160 (by decide) ?_
  have hp512 : pr σ493 1 0 := (pr_dy hc495 rfl rfl)
  obtain ⟨σ513, e514, hs⟩ := ww_let hs
  obtain ⟨hs, hck⟩ := ww_ck1 hs
  have hrm1 := hcs.room (σ1 := σ513) (a := 1) (b := 64) (by rw [e514]; rfl) (by rw [e514]; rfl) hck
  refine ww_newa (atype := .int) hx hb (hts _ q201) hW 26 0 64 (Or.inl rfl) sole_26 (Or.inr hgm) rfl rfl rfl (by decide) rfl (Nat.le_of_ble_eq_true rfl) hrm1.1 hrm1.2 dX1_init_162 (fun H L hx1 hW => ?_)
  rw [← e514] at hx1 hW
  have hcs := hcs.more (σ1 := σ513) (a := 1) (b := 64) (by rw [e514]; rfl) (by rw [e514]; rfl)
  have hrm := hrm1
  have hc515 : 0 < gN_ σ513 1 := Nat.lt_of_lt_of_le hc495 (hx1.2.1 1)
  have hc516 : (gN_ σ 10) < gN_ σ513 10 := Nat.lt_of_lt_of_le hc496 (hx1.2.1 10)
  have hc517 : (gN_ σ17 50) < gN_ σ513 50 := Nat.lt_of_lt_of_le hc497 (hx1.2.1 50)
  have hc518 : (gN_ σ37 50) < gN_ σ513 50 := Nat.lt_of_lt_of_le hc498 (hx1.2.1 50)
  have hc519 : (gN_ σ60 50) < gN_ σ513 50 := Nat.lt_of_lt_of_le hc499 (hx1.2.1 50)
  have hc520 : (gN_ σ86 60) < gN_ σ513 60 := Nat.lt_of_lt_of_le hc500 (hx1.2.1 60)
  have hc521 : (gN_ σ115 65) < gN_ σ513 65 := Nat.lt_of_lt_of_le hc501 (hx1.2.1 65)
  have hc522 : (gN_ σ147 70) < gN_ σ513 70 := Nat.lt_of_lt_of_le hc502 (hx1.2.1 70)
  have hc523 : (gN_ σ178 72) < gN_ σ513 72 := Nat.lt_of_lt_of_le hc503 (hx1.2.1 72)
  have hc524 : (gN_ σ212 74) < gN_ σ513 74 := Nat.lt_of_lt_of_le hc504 (hx1.2.1 74)
  have hc525 : (gN_ σ249 76) < gN_ σ513 76 := Nat.lt_of_lt_of_le hc505 (hx1.2.1 76)
  have hc526 : (gN_ σ289 20) < gN_ σ513 20 := Nat.lt_of_lt_of_le hc506 (hx1.2.1 20)
  have hc527 : (gN_ σ318 21) < gN_ σ513 21 := Nat.lt_of_lt_of_le hc507 (hx1.2.1 21)
  have hc528 : (gN_ σ349 22) < gN_ σ513 22 := Nat.lt_of_lt_of_le hc508 (hx1.2.1 22)
  have hc529 : (gN_ σ382 23) < gN_ σ513 23 := Nat.lt_of_lt_of_le hc509 (hx1.2.1 23)
  have hc530 : (gN_ σ417 24) < gN_ σ513 24 := Nat.lt_of_lt_of_le hc510 (hx1.2.1 24)
  have hc531 : (gN_ σ454 25) < gN_ σ513 25 := Nat.lt_of_lt_of_le hc511 (hx1.2.1 25)
  have hc532 : gN_ σ493 26 < gN_ σ513 26 := by rw [e514]; exact nA_lt rfl
  rw [show ow_ 26 = 26 from rfl]
  have hl : lv_has ls 2 [(0, .ref (L 1 0))] := by rw [hx1.at hp512 (by decide)]; exact hl
  refine ww_stk (st1 := [.ref (L 26 (gN_ σ493 26)), .ref (L 1 0)]) (by rw [hx1.at hp512 (by decide)]) ?_
  have hx0 := hx0.trans hx1
  obtain ⟨hc533, hs⟩ := ww_chk hs
  have hpq : pr σ513 26 (gN_ σ493 26) := (pr_dy hc532 rfl rfl)
  rw [hc533] at hpq
  obtain ⟨σ534, e535, hs⟩ := ww_let hs
  refine ww_markF (d := (1, 26, 0)) hx hb hts hown (hnm.trans rfl) hW 1 0 16 0 (pr_dy hc515 rfl rfl) (tgd_1 hpq) (obv_0 rfl) rfl (by decide) (Nat.le_of_ble_eq_true rfl) in_X1 tyX1_ok nmX1 rfl (Nat.le_of_ble_eq_true rfl) (hts _ q376) (fun _ h => h) rfl rfl rfl (fun _ => rfl) (fun _ => rfl) (by rw [hc533]; rfl) dX1_init_164 (fun H locs hW => ?_)
  have hW : wv g L σ534 s H locs := by rw [e535]; exact hW
  obtain ⟨hx0, hcs⟩ := lx_s (σ1 := σ534) hx0 hcs (by rw [e535]; exact (kp_M (by decide)))
  have hc536 : 0 < gN_ σ534 1 := by rw [e535]; exact hc515
  have hc537 : (gN_ σ 10) < gN_ σ534 10 := by rw [e535]; exact hc516
  have hc538 : (gN_ σ17 50) < gN_ σ534 50 := by rw [e535]; exact hc517
  have hc539 : (gN_ σ37 50) < gN_ σ534 50 := by rw [e535]; exact hc518
  have hc540 : (gN_ σ60 50) < gN_ σ534 50 := by rw [e535]; exact hc519
  have hc541 : (gN_ σ86 60) < gN_ σ534 60 := by rw [e535]; exact hc520
  have hc542 : (gN_ σ115 65) < gN_ σ534 65 := by rw [e535]; exact hc521
  have hc543 : (gN_ σ147 70) < gN_ σ534 70 := by rw [e535]; exact hc522
  have hc544 : (gN_ σ178 72) < gN_ σ534 72 := by rw [e535]; exact hc523
  have hc545 : (gN_ σ212 74) < gN_ σ534 74 := by rw [e535]; exact hc524
  have hc546 : (gN_ σ249 76) < gN_ σ534 76 := by rw [e535]; exact hc525
  have hc547 : (gN_ σ289 20) < gN_ σ534 20 := by rw [e535]; exact hc526
  have hc548 : (gN_ σ318 21) < gN_ σ534 21 := by rw [e535]; exact hc527
  have hc549 : (gN_ σ349 22) < gN_ σ534 22 := by rw [e535]; exact hc528
  have hc550 : (gN_ σ382 23) < gN_ σ534 23 := by rw [e535]; exact hc529
  have hc551 : (gN_ σ417 24) < gN_ σ534 24 := by rw [e535]; exact hc530
  have hc552 : (gN_ σ454 25) < gN_ σ534 25 := by rw [e535]; exact hc531
  have hc553 : (gN_ σ493 26) < gN_ σ534 26 := by rw [e535]; exact hc532
  refine lv_aload_n hx hb dX1_init_167 rfl (lv_at hl 0 rfl) ?_
  refine lv_bipush (v := 60) hx hb dX1_init_168 (by decide) ?_
  have hp554 : pr σ534 1 0 := (pr_dy hc536 rfl rfl)
  obtain ⟨σ555, e556, hs⟩ := ww_let hs
  obtain ⟨hs, hck⟩ := ww_ck1 hs
  have hrm1 := hcs.room (σ1 := σ555) (a := 1) (b := 60) (by rw [e556]; rfl) (by rw [e556]; rfl) hck
  refine ww_newa (atype := .int) hx hb (hts _ q201) hW 27 0 60 (Or.inl rfl) sole_27 (Or.inr hgm) rfl rfl rfl (by decide) rfl (Nat.le_of_ble_eq_true rfl) hrm1.1 hrm1.2 dX1_init_170 (fun H L hx1 hW => ?_)
  rw [← e556] at hx1 hW
  have hcs := hcs.more (σ1 := σ555) (a := 1) (b := 60) (by rw [e556]; rfl) (by rw [e556]; rfl)
  have hrm := hrm1
  have hc557 : 0 < gN_ σ555 1 := Nat.lt_of_lt_of_le hc536 (hx1.2.1 1)
  have hc558 : (gN_ σ 10) < gN_ σ555 10 := Nat.lt_of_lt_of_le hc537 (hx1.2.1 10)
  have hc559 : (gN_ σ17 50) < gN_ σ555 50 := Nat.lt_of_lt_of_le hc538 (hx1.2.1 50)
  have hc560 : (gN_ σ37 50) < gN_ σ555 50 := Nat.lt_of_lt_of_le hc539 (hx1.2.1 50)
  have hc561 : (gN_ σ60 50) < gN_ σ555 50 := Nat.lt_of_lt_of_le hc540 (hx1.2.1 50)
  have hc562 : (gN_ σ86 60) < gN_ σ555 60 := Nat.lt_of_lt_of_le hc541 (hx1.2.1 60)
  have hc563 : (gN_ σ115 65) < gN_ σ555 65 := Nat.lt_of_lt_of_le hc542 (hx1.2.1 65)
  have hc564 : (gN_ σ147 70) < gN_ σ555 70 := Nat.lt_of_lt_of_le hc543 (hx1.2.1 70)
  have hc565 : (gN_ σ178 72) < gN_ σ555 72 := Nat.lt_of_lt_of_le hc544 (hx1.2.1 72)
  have hc566 : (gN_ σ212 74) < gN_ σ555 74 := Nat.lt_of_lt_of_le hc545 (hx1.2.1 74)
  have hc567 : (gN_ σ249 76) < gN_ σ555 76 := Nat.lt_of_lt_of_le hc546 (hx1.2.1 76)
  have hc568 : (gN_ σ289 20) < gN_ σ555 20 := Nat.lt_of_lt_of_le hc547 (hx1.2.1 20)
  have hc569 : (gN_ σ318 21) < gN_ σ555 21 := Nat.lt_of_lt_of_le hc548 (hx1.2.1 21)
  have hc570 : (gN_ σ349 22) < gN_ σ555 22 := Nat.lt_of_lt_of_le hc549 (hx1.2.1 22)
  have hc571 : (gN_ σ382 23) < gN_ σ555 23 := Nat.lt_of_lt_of_le hc550 (hx1.2.1 23)
  have hc572 : (gN_ σ417 24) < gN_ σ555 24 := Nat.lt_of_lt_of_le hc551 (hx1.2.1 24)
  have hc573 : (gN_ σ454 25) < gN_ σ555 25 := Nat.lt_of_lt_of_le hc552 (hx1.2.1 25)
  have hc574 : (gN_ σ493 26) < gN_ σ555 26 := Nat.lt_of_lt_of_le hc553 (hx1.2.1 26)
  have hc575 : gN_ σ534 27 < gN_ σ555 27 := by rw [e556]; exact nA_lt rfl
  rw [show ow_ 27 = 27 from rfl]
  have hl : lv_has ls 2 [(0, .ref (L 1 0))] := by rw [hx1.at hp554 (by decide)]; exact hl
  refine ww_stk (st1 := [.ref (L 27 (gN_ σ534 27)), .ref (L 1 0)]) (by rw [hx1.at hp554 (by decide)]) ?_
  have hx0 := hx0.trans hx1
  obtain ⟨hc576, hs⟩ := ww_chk hs
  have hpq : pr σ555 27 (gN_ σ534 27) := (pr_dy hc575 rfl rfl)
  rw [hc576] at hpq
  obtain ⟨σ577, e578, hs⟩ := ww_let hs
  refine ww_markF (d := (1, 27, 0)) hx hb hts hown (hnm.trans rfl) hW 1 0 17 0 (pr_dy hc557 rfl rfl) (tgd_1 hpq) (obv_0 rfl) rfl (by decide) (Nat.le_of_ble_eq_true rfl) in_X1 tyX1_ok nmX1 rfl (Nat.le_of_ble_eq_true rfl) (hts _ q377) (fun _ h => h) rfl rfl rfl (fun _ => rfl) (fun _ => rfl) (by rw [hc576]; rfl) dX1_init_172 (fun H locs hW => ?_)
  have hW : wv g L σ577 s H locs := by rw [e578]; exact hW
  obtain ⟨hx0, hcs⟩ := lx_s (σ1 := σ577) hx0 hcs (by rw [e578]; exact (kp_M (by decide)))
  have hc579 : 0 < gN_ σ577 1 := by rw [e578]; exact hc557
  have hc580 : (gN_ σ 10) < gN_ σ577 10 := by rw [e578]; exact hc558
  have hc581 : (gN_ σ17 50) < gN_ σ577 50 := by rw [e578]; exact hc559
  have hc582 : (gN_ σ37 50) < gN_ σ577 50 := by rw [e578]; exact hc560
  have hc583 : (gN_ σ60 50) < gN_ σ577 50 := by rw [e578]; exact hc561
  have hc584 : (gN_ σ86 60) < gN_ σ577 60 := by rw [e578]; exact hc562
  have hc585 : (gN_ σ115 65) < gN_ σ577 65 := by rw [e578]; exact hc563
  have hc586 : (gN_ σ147 70) < gN_ σ577 70 := by rw [e578]; exact hc564
  have hc587 : (gN_ σ178 72) < gN_ σ577 72 := by rw [e578]; exact hc565
  have hc588 : (gN_ σ212 74) < gN_ σ577 74 := by rw [e578]; exact hc566
  have hc589 : (gN_ σ249 76) < gN_ σ577 76 := by rw [e578]; exact hc567
  have hc590 : (gN_ σ289 20) < gN_ σ577 20 := by rw [e578]; exact hc568
  have hc591 : (gN_ σ318 21) < gN_ σ577 21 := by rw [e578]; exact hc569
  have hc592 : (gN_ σ349 22) < gN_ σ577 22 := by rw [e578]; exact hc570
  have hc593 : (gN_ σ382 23) < gN_ σ577 23 := by rw [e578]; exact hc571
  have hc594 : (gN_ σ417 24) < gN_ σ577 24 := by rw [e578]; exact hc572
  have hc595 : (gN_ σ454 25) < gN_ σ577 25 := by rw [e578]; exact hc573
  have hc596 : (gN_ σ493 26) < gN_ σ577 26 := by rw [e578]; exact hc574
  have hc597 : (gN_ σ534 27) < gN_ σ577 27 := by rw [e578]; exact hc575
  refine lv_aload_n hx hb dX1_init_175 rfl (lv_at hl 0 rfl) ?_
  refine lv_bipush (v := 60) hx hb dX1_init_176 (by decide) ?_
  have hp598 : pr σ577 1 0 := (pr_dy hc579 rfl rfl)
  obtain ⟨σ599, e600, hs⟩ := ww_let hs
  obtain ⟨hs, hck⟩ := ww_ck1 hs
  have hrm1 := hcs.room (σ1 := σ599) (a := 1) (b := 60) (by rw [e600]; rfl) (by rw [e600]; rfl) hck
  refine ww_newa (atype := .int) hx hb (hts _ q201) hW 28 0 60 (Or.inl rfl) sole_28 (Or.inr hgm) rfl rfl rfl (by decide) rfl (Nat.le_of_ble_eq_true rfl) hrm1.1 hrm1.2 dX1_init_178 (fun H L hx1 hW => ?_)
  rw [← e600] at hx1 hW
  have hcs := hcs.more (σ1 := σ599) (a := 1) (b := 60) (by rw [e600]; rfl) (by rw [e600]; rfl)
  have hrm := hrm1
  have hc601 : 0 < gN_ σ599 1 := Nat.lt_of_lt_of_le hc579 (hx1.2.1 1)
  have hc602 : (gN_ σ 10) < gN_ σ599 10 := Nat.lt_of_lt_of_le hc580 (hx1.2.1 10)
  have hc603 : (gN_ σ17 50) < gN_ σ599 50 := Nat.lt_of_lt_of_le hc581 (hx1.2.1 50)
  have hc604 : (gN_ σ37 50) < gN_ σ599 50 := Nat.lt_of_lt_of_le hc582 (hx1.2.1 50)
  have hc605 : (gN_ σ60 50) < gN_ σ599 50 := Nat.lt_of_lt_of_le hc583 (hx1.2.1 50)
  have hc606 : (gN_ σ86 60) < gN_ σ599 60 := Nat.lt_of_lt_of_le hc584 (hx1.2.1 60)
  have hc607 : (gN_ σ115 65) < gN_ σ599 65 := Nat.lt_of_lt_of_le hc585 (hx1.2.1 65)
  have hc608 : (gN_ σ147 70) < gN_ σ599 70 := Nat.lt_of_lt_of_le hc586 (hx1.2.1 70)
  have hc609 : (gN_ σ178 72) < gN_ σ599 72 := Nat.lt_of_lt_of_le hc587 (hx1.2.1 72)
  have hc610 : (gN_ σ212 74) < gN_ σ599 74 := Nat.lt_of_lt_of_le hc588 (hx1.2.1 74)
  have hc611 : (gN_ σ249 76) < gN_ σ599 76 := Nat.lt_of_lt_of_le hc589 (hx1.2.1 76)
  have hc612 : (gN_ σ289 20) < gN_ σ599 20 := Nat.lt_of_lt_of_le hc590 (hx1.2.1 20)
  have hc613 : (gN_ σ318 21) < gN_ σ599 21 := Nat.lt_of_lt_of_le hc591 (hx1.2.1 21)
  have hc614 : (gN_ σ349 22) < gN_ σ599 22 := Nat.lt_of_lt_of_le hc592 (hx1.2.1 22)
  have hc615 : (gN_ σ382 23) < gN_ σ599 23 := Nat.lt_of_lt_of_le hc593 (hx1.2.1 23)
  have hc616 : (gN_ σ417 24) < gN_ σ599 24 := Nat.lt_of_lt_of_le hc594 (hx1.2.1 24)
  have hc617 : (gN_ σ454 25) < gN_ σ599 25 := Nat.lt_of_lt_of_le hc595 (hx1.2.1 25)
  have hc618 : (gN_ σ493 26) < gN_ σ599 26 := Nat.lt_of_lt_of_le hc596 (hx1.2.1 26)
  have hc619 : (gN_ σ534 27) < gN_ σ599 27 := Nat.lt_of_lt_of_le hc597 (hx1.2.1 27)
  have hc620 : gN_ σ577 28 < gN_ σ599 28 := by rw [e600]; exact nA_lt rfl
  rw [show ow_ 28 = 28 from rfl]
  have hl : lv_has ls 2 [(0, .ref (L 1 0))] := by rw [hx1.at hp598 (by decide)]; exact hl
  refine ww_stk (st1 := [.ref (L 28 (gN_ σ577 28)), .ref (L 1 0)]) (by rw [hx1.at hp598 (by decide)]) ?_
  have hx0 := hx0.trans hx1
  obtain ⟨hc621, hs⟩ := ww_chk hs
  have hpq : pr σ599 28 (gN_ σ577 28) := (pr_dy hc620 rfl rfl)
  rw [hc621] at hpq
  obtain ⟨σ622, e623, hs⟩ := ww_let hs
  refine ww_markF (d := (1, 28, 0)) hx hb hts hown (hnm.trans rfl) hW 1 0 18 0 (pr_dy hc601 rfl rfl) (tgd_1 hpq) (obv_0 rfl) rfl (by decide) (Nat.le_of_ble_eq_true rfl) in_X1 tyX1_ok nmX1 rfl (Nat.le_of_ble_eq_true rfl) (hts _ q378) (fun _ h => h) rfl rfl rfl (fun _ => rfl) (fun _ => rfl) (by rw [hc621]; rfl) dX1_init_180 (fun H locs hW => ?_)
  have hW : wv g L σ622 s H locs := by rw [e623]; exact hW
  obtain ⟨hx0, hcs⟩ := lx_s (σ1 := σ622) hx0 hcs (by rw [e623]; exact (kp_M (by decide)))
  have hc624 : 0 < gN_ σ622 1 := by rw [e623]; exact hc601
  have hc625 : (gN_ σ 10) < gN_ σ622 10 := by rw [e623]; exact hc602
  have hc626 : (gN_ σ17 50) < gN_ σ622 50 := by rw [e623]; exact hc603
  have hc627 : (gN_ σ37 50) < gN_ σ622 50 := by rw [e623]; exact hc604
  have hc628 : (gN_ σ60 50) < gN_ σ622 50 := by rw [e623]; exact hc605
  have hc629 : (gN_ σ86 60) < gN_ σ622 60 := by rw [e623]; exact hc606
  have hc630 : (gN_ σ115 65) < gN_ σ622 65 := by rw [e623]; exact hc607
  have hc631 : (gN_ σ147 70) < gN_ σ622 70 := by rw [e623]; exact hc608
  have hc632 : (gN_ σ178 72) < gN_ σ622 72 := by rw [e623]; exact hc609
  have hc633 : (gN_ σ212 74) < gN_ σ622 74 := by rw [e623]; exact hc610
  have hc634 : (gN_ σ249 76) < gN_ σ622 76 := by rw [e623]; exact hc611
  have hc635 : (gN_ σ289 20) < gN_ σ622 20 := by rw [e623]; exact hc612
  have hc636 : (gN_ σ318 21) < gN_ σ622 21 := by rw [e623]; exact hc613
  have hc637 : (gN_ σ349 22) < gN_ σ622 22 := by rw [e623]; exact hc614
  have hc638 : (gN_ σ382 23) < gN_ σ622 23 := by rw [e623]; exact hc615
  have hc639 : (gN_ σ417 24) < gN_ σ622 24 := by rw [e623]; exact hc616
  have hc640 : (gN_ σ454 25) < gN_ σ622 25 := by rw [e623]; exact hc617
  have hc641 : (gN_ σ493 26) < gN_ σ622 26 := by rw [e623]; exact hc618
  have hc642 : (gN_ σ534 27) < gN_ σ622 27 := by rw [e623]; exact hc619
  have hc643 : (gN_ σ577 28) < gN_ σ622 28 := by rw [e623]; exact hc620
  refine lv_aload_n hx hb dX1_init_183 rfl (lv_at hl 0 rfl) ?_
  refine lv_iconst (v := 5) hx hb dX1_init_184 (by decide) ?_
  have hp644 : pr σ622 1 0 := (pr_dy hc624 rfl rfl)
  obtain ⟨σ645, e646, hs⟩ := ww_let hs
  obtain ⟨hs, hck⟩ := ww_ck1 hs
  have hrm1 := hcs.room (σ1 := σ645) (a := 1) (b := 5) (by rw [e646]; rfl) (by rw [e646]; rfl) hck
  refine ww_newa (atype := .int) hx hb (hts _ q201) hW 29 0 5 (Or.inl rfl) sole_29 (Or.inr hgm) rfl rfl rfl (by decide) rfl (Nat.le_of_ble_eq_true rfl) hrm1.1 hrm1.2 dX1_init_185 (fun H L hx1 hW => ?_)
  rw [← e646] at hx1 hW
  have hcs := hcs.more (σ1 := σ645) (a := 1) (b := 5) (by rw [e646]; rfl) (by rw [e646]; rfl)
  have hrm := hrm1
  have hc647 : 0 < gN_ σ645 1 := Nat.lt_of_lt_of_le hc624 (hx1.2.1 1)
  have hc648 : (gN_ σ 10) < gN_ σ645 10 := Nat.lt_of_lt_of_le hc625 (hx1.2.1 10)
  have hc649 : (gN_ σ17 50) < gN_ σ645 50 := Nat.lt_of_lt_of_le hc626 (hx1.2.1 50)
  have hc650 : (gN_ σ37 50) < gN_ σ645 50 := Nat.lt_of_lt_of_le hc627 (hx1.2.1 50)
  have hc651 : (gN_ σ60 50) < gN_ σ645 50 := Nat.lt_of_lt_of_le hc628 (hx1.2.1 50)
  have hc652 : (gN_ σ86 60) < gN_ σ645 60 := Nat.lt_of_lt_of_le hc629 (hx1.2.1 60)
  have hc653 : (gN_ σ115 65) < gN_ σ645 65 := Nat.lt_of_lt_of_le hc630 (hx1.2.1 65)
  have hc654 : (gN_ σ147 70) < gN_ σ645 70 := Nat.lt_of_lt_of_le hc631 (hx1.2.1 70)
  have hc655 : (gN_ σ178 72) < gN_ σ645 72 := Nat.lt_of_lt_of_le hc632 (hx1.2.1 72)
  have hc656 : (gN_ σ212 74) < gN_ σ645 74 := Nat.lt_of_lt_of_le hc633 (hx1.2.1 74)
  have hc657 : (gN_ σ249 76) < gN_ σ645 76 := Nat.lt_of_lt_of_le hc634 (hx1.2.1 76)
  have hc658 : (gN_ σ289 20) < gN_ σ645 20 := Nat.lt_of_lt_of_le hc635 (hx1.2.1 20)
  have hc659 : (gN_ σ318 21) < gN_ σ645 21 := Nat.lt_of_lt_of_le hc636 (hx1.2.1 21)
  have hc660 : (gN_ σ349 22) < gN_ σ645 22 := Nat.lt_of_lt_of_le hc637 (hx1.2.1 22)
  have hc661 : (gN_ σ382 23) < gN_ σ645 23 := Nat.lt_of_lt_of_le hc638 (hx1.2.1 23)
  have hc662 : (gN_ σ417 24) < gN_ σ645 24 := Nat.lt_of_lt_of_le hc639 (hx1.2.1 24)
  have hc663 : (gN_ σ454 25) < gN_ σ645 25 := Nat.lt_of_lt_of_le hc640 (hx1.2.1 25)
  have hc664 : (gN_ σ493 26) < gN_ σ645 26 := Nat.lt_of_lt_of_le hc641 (hx1.2.1 26)
  have hc665 : (gN_ σ534 27) < gN_ σ645 27 := Nat.lt_of_lt_of_le hc642 (hx1.2.1 27)
  have hc666 : (gN_ σ577 28) < gN_ σ645 28 := Nat.lt_of_lt_of_le hc643 (hx1.2.1 28)
  have hc667 : gN_ σ622 29 < gN_ σ645 29 := by rw [e646]; exact nA_lt rfl
  rw [show ow_ 29 = 29 from rfl]
  have hl : lv_has ls 2 [(0, .ref (L 1 0))] := by rw [hx1.at hp644 (by decide)]; exact hl
  refine ww_stk (st1 := [.ref (L 29 (gN_ σ622 29)), .ref (L 1 0)]) (by rw [hx1.at hp644 (by decide)]) ?_
  have hx0 := hx0.trans hx1
  obtain ⟨hc668, hs⟩ := ww_chk hs
  have hpq : pr σ645 29 (gN_ σ622 29) := (pr_dy hc667 rfl rfl)
  rw [hc668] at hpq
  obtain ⟨σ669, e670, hs⟩ := ww_let hs
  refine ww_markF (d := (1, 29, 0)) hx hb hts hown (hnm.trans rfl) hW 1 0 19 0 (pr_dy hc647 rfl rfl) (tgd_1 hpq) (obv_0 rfl) rfl (by decide) (Nat.le_of_ble_eq_true rfl) in_X1 tyX1_ok nmX1 rfl (Nat.le_of_ble_eq_true rfl) (hts _ q379) (fun _ h => h) rfl rfl rfl (fun _ => rfl) (fun _ => rfl) (by rw [hc668]; rfl) dX1_init_187 (fun H locs hW => ?_)
  have hW : wv g L σ669 s H locs := by rw [e670]; exact hW
  obtain ⟨hx0, hcs⟩ := lx_s (σ1 := σ669) hx0 hcs (by rw [e670]; exact (kp_M (by decide)))
  have hc671 : 0 < gN_ σ669 1 := by rw [e670]; exact hc647
  have hc672 : (gN_ σ 10) < gN_ σ669 10 := by rw [e670]; exact hc648
  have hc673 : (gN_ σ17 50) < gN_ σ669 50 := by rw [e670]; exact hc649
  have hc674 : (gN_ σ37 50) < gN_ σ669 50 := by rw [e670]; exact hc650
  have hc675 : (gN_ σ60 50) < gN_ σ669 50 := by rw [e670]; exact hc651
  have hc676 : (gN_ σ86 60) < gN_ σ669 60 := by rw [e670]; exact hc652
  have hc677 : (gN_ σ115 65) < gN_ σ669 65 := by rw [e670]; exact hc653
  have hc678 : (gN_ σ147 70) < gN_ σ669 70 := by rw [e670]; exact hc654
  have hc679 : (gN_ σ178 72) < gN_ σ669 72 := by rw [e670]; exact hc655
  have hc680 : (gN_ σ212 74) < gN_ σ669 74 := by rw [e670]; exact hc656
  have hc681 : (gN_ σ249 76) < gN_ σ669 76 := by rw [e670]; exact hc657
  have hc682 : (gN_ σ289 20) < gN_ σ669 20 := by rw [e670]; exact hc658
  have hc683 : (gN_ σ318 21) < gN_ σ669 21 := by rw [e670]; exact hc659
  have hc684 : (gN_ σ349 22) < gN_ σ669 22 := by rw [e670]; exact hc660
  have hc685 : (gN_ σ382 23) < gN_ σ669 23 := by rw [e670]; exact hc661
  have hc686 : (gN_ σ417 24) < gN_ σ669 24 := by rw [e670]; exact hc662
  have hc687 : (gN_ σ454 25) < gN_ σ669 25 := by rw [e670]; exact hc663
  have hc688 : (gN_ σ493 26) < gN_ σ669 26 := by rw [e670]; exact hc664
  have hc689 : (gN_ σ534 27) < gN_ σ669 27 := by rw [e670]; exact hc665
  have hc690 : (gN_ σ577 28) < gN_ σ669 28 := by rw [e670]; exact hc666
  have hc691 : (gN_ σ622 29) < gN_ σ669 29 := by rw [e670]; exact hc667
  refine lv_aload_n hx hb dX1_init_190 rfl (lv_at hl 0 rfl) ?_
  refine lv_bipush (v := 64) hx hb dX1_init_191 (by decide) ?_
  have hp692 : pr σ669 1 0 := (pr_dy hc671 rfl rfl)
  obtain ⟨σ693, e694, hs⟩ := ww_let hs
  obtain ⟨hs, hck⟩ := ww_ck1 hs
  have hrm1 := hcs.room (σ1 := σ693) (a := 1) (b := 64) (by rw [e694]; rfl) (by rw [e694]; rfl) hck
  refine ww_newa (atype := .int) hx hb (hts _ q201) hW 30 0 64 (Or.inl rfl) sole_30 (Or.inr hgm) rfl rfl rfl (by decide) rfl (Nat.le_of_ble_eq_true rfl) hrm1.1 hrm1.2 dX1_init_193 (fun H L hx1 hW => ?_)
  rw [← e694] at hx1 hW
  have hcs := hcs.more (σ1 := σ693) (a := 1) (b := 64) (by rw [e694]; rfl) (by rw [e694]; rfl)
  have hrm := hrm1
  have hc695 : 0 < gN_ σ693 1 := Nat.lt_of_lt_of_le hc671 (hx1.2.1 1)
  have hc696 : (gN_ σ 10) < gN_ σ693 10 := Nat.lt_of_lt_of_le hc672 (hx1.2.1 10)
  have hc697 : (gN_ σ17 50) < gN_ σ693 50 := Nat.lt_of_lt_of_le hc673 (hx1.2.1 50)
  have hc698 : (gN_ σ37 50) < gN_ σ693 50 := Nat.lt_of_lt_of_le hc674 (hx1.2.1 50)
  have hc699 : (gN_ σ60 50) < gN_ σ693 50 := Nat.lt_of_lt_of_le hc675 (hx1.2.1 50)
  have hc700 : (gN_ σ86 60) < gN_ σ693 60 := Nat.lt_of_lt_of_le hc676 (hx1.2.1 60)
  have hc701 : (gN_ σ115 65) < gN_ σ693 65 := Nat.lt_of_lt_of_le hc677 (hx1.2.1 65)
  have hc702 : (gN_ σ147 70) < gN_ σ693 70 := Nat.lt_of_lt_of_le hc678 (hx1.2.1 70)
  have hc703 : (gN_ σ178 72) < gN_ σ693 72 := Nat.lt_of_lt_of_le hc679 (hx1.2.1 72)
  have hc704 : (gN_ σ212 74) < gN_ σ693 74 := Nat.lt_of_lt_of_le hc680 (hx1.2.1 74)
  have hc705 : (gN_ σ249 76) < gN_ σ693 76 := Nat.lt_of_lt_of_le hc681 (hx1.2.1 76)
  have hc706 : (gN_ σ289 20) < gN_ σ693 20 := Nat.lt_of_lt_of_le hc682 (hx1.2.1 20)
  have hc707 : (gN_ σ318 21) < gN_ σ693 21 := Nat.lt_of_lt_of_le hc683 (hx1.2.1 21)
  have hc708 : (gN_ σ349 22) < gN_ σ693 22 := Nat.lt_of_lt_of_le hc684 (hx1.2.1 22)
  have hc709 : (gN_ σ382 23) < gN_ σ693 23 := Nat.lt_of_lt_of_le hc685 (hx1.2.1 23)
  have hc710 : (gN_ σ417 24) < gN_ σ693 24 := Nat.lt_of_lt_of_le hc686 (hx1.2.1 24)
  have hc711 : (gN_ σ454 25) < gN_ σ693 25 := Nat.lt_of_lt_of_le hc687 (hx1.2.1 25)
  have hc712 : (gN_ σ493 26) < gN_ σ693 26 := Nat.lt_of_lt_of_le hc688 (hx1.2.1 26)
  have hc713 : (gN_ σ534 27) < gN_ σ693 27 := Nat.lt_of_lt_of_le hc689 (hx1.2.1 27)
  have hc714 : (gN_ σ577 28) < gN_ σ693 28 := Nat.lt_of_lt_of_le hc690 (hx1.2.1 28)
  have hc715 : (gN_ σ622 29) < gN_ σ693 29 := Nat.lt_of_lt_of_le hc691 (hx1.2.1 29)
  have hc716 : gN_ σ669 30 < gN_ σ693 30 := by rw [e694]; exact nA_lt rfl
  rw [show ow_ 30 = 30 from rfl]
  have hl : lv_has ls 2 [(0, .ref (L 1 0))] := by rw [hx1.at hp692 (by decide)]; exact hl
  refine ww_stk (st1 := [.ref (L 30 (gN_ σ669 30)), .ref (L 1 0)]) (by rw [hx1.at hp692 (by decide)]) ?_
  have hx0 := hx0.trans hx1
  obtain ⟨hc717, hs⟩ := ww_chk hs
  have hpq : pr σ693 30 (gN_ σ669 30) := (pr_dy hc716 rfl rfl)
  rw [hc717] at hpq
  obtain ⟨σ718, e719, hs⟩ := ww_let hs
  refine ww_markF (d := (1, 30, 0)) hx hb hts hown (hnm.trans rfl) hW 1 0 20 0 (pr_dy hc695 rfl rfl) (tgd_1 hpq) (obv_0 rfl) rfl (by decide) (Nat.le_of_ble_eq_true rfl) in_X1 tyX1_ok nmX1 rfl (Nat.le_of_ble_eq_true rfl) (hts _ q380) (fun _ h => h) rfl rfl rfl (fun _ => rfl) (fun _ => rfl) (by rw [hc717]; rfl) dX1_init_195 (fun H locs hW => ?_)
  have hW : wv g L σ718 s H locs := by rw [e719]; exact hW
  obtain ⟨hx0, hcs⟩ := lx_s (σ1 := σ718) hx0 hcs (by rw [e719]; exact (kp_M (by decide)))
  have hc720 : 0 < gN_ σ718 1 := by rw [e719]; exact hc695
  have hc721 : (gN_ σ 10) < gN_ σ718 10 := by rw [e719]; exact hc696
  have hc722 : (gN_ σ17 50) < gN_ σ718 50 := by rw [e719]; exact hc697
  have hc723 : (gN_ σ37 50) < gN_ σ718 50 := by rw [e719]; exact hc698
  have hc724 : (gN_ σ60 50) < gN_ σ718 50 := by rw [e719]; exact hc699
  have hc725 : (gN_ σ86 60) < gN_ σ718 60 := by rw [e719]; exact hc700
  have hc726 : (gN_ σ115 65) < gN_ σ718 65 := by rw [e719]; exact hc701
  have hc727 : (gN_ σ147 70) < gN_ σ718 70 := by rw [e719]; exact hc702
  have hc728 : (gN_ σ178 72) < gN_ σ718 72 := by rw [e719]; exact hc703
  have hc729 : (gN_ σ212 74) < gN_ σ718 74 := by rw [e719]; exact hc704
  have hc730 : (gN_ σ249 76) < gN_ σ718 76 := by rw [e719]; exact hc705
  have hc731 : (gN_ σ289 20) < gN_ σ718 20 := by rw [e719]; exact hc706
  have hc732 : (gN_ σ318 21) < gN_ σ718 21 := by rw [e719]; exact hc707
  have hc733 : (gN_ σ349 22) < gN_ σ718 22 := by rw [e719]; exact hc708
  have hc734 : (gN_ σ382 23) < gN_ σ718 23 := by rw [e719]; exact hc709
  have hc735 : (gN_ σ417 24) < gN_ σ718 24 := by rw [e719]; exact hc710
  have hc736 : (gN_ σ454 25) < gN_ σ718 25 := by rw [e719]; exact hc711
  have hc737 : (gN_ σ493 26) < gN_ σ718 26 := by rw [e719]; exact hc712
  have hc738 : (gN_ σ534 27) < gN_ σ718 27 := by rw [e719]; exact hc713
  have hc739 : (gN_ σ577 28) < gN_ σ718 28 := by rw [e719]; exact hc714
  have hc740 : (gN_ σ622 29) < gN_ σ718 29 := by rw [e719]; exact hc715
  have hc741 : (gN_ σ669 30) < gN_ σ718 30 := by rw [e719]; exact hc716
  refine lv_aload_n hx hb dX1_init_198 rfl (lv_at hl 0 rfl) ?_
  refine lv_bipush (v := 10) hx hb dX1_init_199 (by decide) ?_
  have hp742 : pr σ718 1 0 := (pr_dy hc720 rfl rfl)
  obtain ⟨σ743, e744, hs⟩ := ww_let hs
  obtain ⟨hs, hck⟩ := ww_ck1 hs
  have hrm1 := hcs.room (σ1 := σ743) (a := 1) (b := 10) (by rw [e744]; rfl) (by rw [e744]; rfl) hck
  refine ww_newa (atype := .int) hx hb (hts _ q201) hW 31 0 10 (Or.inl rfl) sole_31 (Or.inr hgm) rfl rfl rfl (by decide) rfl (Nat.le_of_ble_eq_true rfl) hrm1.1 hrm1.2 dX1_init_201 (fun H L hx1 hW => ?_)
  rw [← e744] at hx1 hW
  have hcs := hcs.more (σ1 := σ743) (a := 1) (b := 10) (by rw [e744]; rfl) (by rw [e744]; rfl)
  have hrm := hrm1
  have hc745 : 0 < gN_ σ743 1 := Nat.lt_of_lt_of_le hc720 (hx1.2.1 1)
  have hc746 : (gN_ σ 10) < gN_ σ743 10 := Nat.lt_of_lt_of_le hc721 (hx1.2.1 10)
  have hc747 : (gN_ σ17 50) < gN_ σ743 50 := Nat.lt_of_lt_of_le hc722 (hx1.2.1 50)
  have hc748 : (gN_ σ37 50) < gN_ σ743 50 := Nat.lt_of_lt_of_le hc723 (hx1.2.1 50)
  have hc749 : (gN_ σ60 50) < gN_ σ743 50 := Nat.lt_of_lt_of_le hc724 (hx1.2.1 50)
  have hc750 : (gN_ σ86 60) < gN_ σ743 60 := Nat.lt_of_lt_of_le hc725 (hx1.2.1 60)
  have hc751 : (gN_ σ115 65) < gN_ σ743 65 := Nat.lt_of_lt_of_le hc726 (hx1.2.1 65)
  have hc752 : (gN_ σ147 70) < gN_ σ743 70 := Nat.lt_of_lt_of_le hc727 (hx1.2.1 70)
  have hc753 : (gN_ σ178 72) < gN_ σ743 72 := Nat.lt_of_lt_of_le hc728 (hx1.2.1 72)
  have hc754 : (gN_ σ212 74) < gN_ σ743 74 := Nat.lt_of_lt_of_le hc729 (hx1.2.1 74)
  have hc755 : (gN_ σ249 76) < gN_ σ743 76 := Nat.lt_of_lt_of_le hc730 (hx1.2.1 76)
  have hc756 : (gN_ σ289 20) < gN_ σ743 20 := Nat.lt_of_lt_of_le hc731 (hx1.2.1 20)
  have hc757 : (gN_ σ318 21) < gN_ σ743 21 := Nat.lt_of_lt_of_le hc732 (hx1.2.1 21)
  have hc758 : (gN_ σ349 22) < gN_ σ743 22 := Nat.lt_of_lt_of_le hc733 (hx1.2.1 22)
  have hc759 : (gN_ σ382 23) < gN_ σ743 23 := Nat.lt_of_lt_of_le hc734 (hx1.2.1 23)
  have hc760 : (gN_ σ417 24) < gN_ σ743 24 := Nat.lt_of_lt_of_le hc735 (hx1.2.1 24)
  have hc761 : (gN_ σ454 25) < gN_ σ743 25 := Nat.lt_of_lt_of_le hc736 (hx1.2.1 25)
  have hc762 : (gN_ σ493 26) < gN_ σ743 26 := Nat.lt_of_lt_of_le hc737 (hx1.2.1 26)
  have hc763 : (gN_ σ534 27) < gN_ σ743 27 := Nat.lt_of_lt_of_le hc738 (hx1.2.1 27)
  have hc764 : (gN_ σ577 28) < gN_ σ743 28 := Nat.lt_of_lt_of_le hc739 (hx1.2.1 28)
  have hc765 : (gN_ σ622 29) < gN_ σ743 29 := Nat.lt_of_lt_of_le hc740 (hx1.2.1 29)
  have hc766 : (gN_ σ669 30) < gN_ σ743 30 := Nat.lt_of_lt_of_le hc741 (hx1.2.1 30)
  have hc767 : gN_ σ718 31 < gN_ σ743 31 := by rw [e744]; exact nA_lt rfl
  rw [show ow_ 31 = 31 from rfl]
  have hl : lv_has ls 2 [(0, .ref (L 1 0))] := by rw [hx1.at hp742 (by decide)]; exact hl
  refine ww_stk (st1 := [.ref (L 31 (gN_ σ718 31)), .ref (L 1 0)]) (by rw [hx1.at hp742 (by decide)]) ?_
  have hx0 := hx0.trans hx1
  obtain ⟨hc768, hs⟩ := ww_chk hs
  have hpq : pr σ743 31 (gN_ σ718 31) := (pr_dy hc767 rfl rfl)
  rw [hc768] at hpq
  obtain ⟨σ769, e770, hs⟩ := ww_let hs
  refine ww_markF (d := (1, 31, 0)) hx hb hts hown (hnm.trans rfl) hW 1 0 21 0 (pr_dy hc745 rfl rfl) (tgd_1 hpq) (obv_0 rfl) rfl (by decide) (Nat.le_of_ble_eq_true rfl) in_X1 tyX1_ok nmX1 rfl (Nat.le_of_ble_eq_true rfl) (hts _ q381) (fun _ h => h) rfl rfl rfl (fun _ => rfl) (fun _ => rfl) (by rw [hc768]; rfl) dX1_init_203 (fun H locs hW => ?_)
  have hW : wv g L σ769 s H locs := by rw [e770]; exact hW
  obtain ⟨hx0, hcs⟩ := lx_s (σ1 := σ769) hx0 hcs (by rw [e770]; exact (kp_M (by decide)))
  have hc771 : 0 < gN_ σ769 1 := by rw [e770]; exact hc745
  have hc772 : (gN_ σ 10) < gN_ σ769 10 := by rw [e770]; exact hc746
  have hc773 : (gN_ σ17 50) < gN_ σ769 50 := by rw [e770]; exact hc747
  have hc774 : (gN_ σ37 50) < gN_ σ769 50 := by rw [e770]; exact hc748
  have hc775 : (gN_ σ60 50) < gN_ σ769 50 := by rw [e770]; exact hc749
  have hc776 : (gN_ σ86 60) < gN_ σ769 60 := by rw [e770]; exact hc750
  have hc777 : (gN_ σ115 65) < gN_ σ769 65 := by rw [e770]; exact hc751
  have hc778 : (gN_ σ147 70) < gN_ σ769 70 := by rw [e770]; exact hc752
  have hc779 : (gN_ σ178 72) < gN_ σ769 72 := by rw [e770]; exact hc753
  have hc780 : (gN_ σ212 74) < gN_ σ769 74 := by rw [e770]; exact hc754
  have hc781 : (gN_ σ249 76) < gN_ σ769 76 := by rw [e770]; exact hc755
  have hc782 : (gN_ σ289 20) < gN_ σ769 20 := by rw [e770]; exact hc756
  have hc783 : (gN_ σ318 21) < gN_ σ769 21 := by rw [e770]; exact hc757
  have hc784 : (gN_ σ349 22) < gN_ σ769 22 := by rw [e770]; exact hc758
  have hc785 : (gN_ σ382 23) < gN_ σ769 23 := by rw [e770]; exact hc759
  have hc786 : (gN_ σ417 24) < gN_ σ769 24 := by rw [e770]; exact hc760
  have hc787 : (gN_ σ454 25) < gN_ σ769 25 := by rw [e770]; exact hc761
  have hc788 : (gN_ σ493 26) < gN_ σ769 26 := by rw [e770]; exact hc762
  have hc789 : (gN_ σ534 27) < gN_ σ769 27 := by rw [e770]; exact hc763
  have hc790 : (gN_ σ577 28) < gN_ σ769 28 := by rw [e770]; exact hc764
  have hc791 : (gN_ σ622 29) < gN_ σ769 29 := by rw [e770]; exact hc765
  have hc792 : (gN_ σ669 30) < gN_ σ769 30 := by rw [e770]; exact hc766
  have hc793 : (gN_ σ718 31) < gN_ σ769 31 := by rw [e770]; exact hc767
  refine lv_aload_n hx hb dX1_init_206 rfl (lv_at hl 0 rfl) ?_
  refine lv_bipush (v := 10) hx hb dX1_init_207 (by decide) ?_
  have hp794 : pr σ769 1 0 := (pr_dy hc771 rfl rfl)
  obtain ⟨σ795, e796, hs⟩ := ww_let hs
  obtain ⟨hs, hck⟩ := ww_ck1 hs
  have hrm1 := hcs.room (σ1 := σ795) (a := 1) (b := 10) (by rw [e796]; rfl) (by rw [e796]; rfl) hck
  refine ww_newa (atype := .int) hx hb (hts _ q201) hW 32 0 10 (Or.inl rfl) sole_32 (Or.inr hgm) rfl rfl rfl (by decide) rfl (Nat.le_of_ble_eq_true rfl) hrm1.1 hrm1.2 dX1_init_209 (fun H L hx1 hW => ?_)
  rw [← e796] at hx1 hW
  have hcs := hcs.more (σ1 := σ795) (a := 1) (b := 10) (by rw [e796]; rfl) (by rw [e796]; rfl)
  have hrm := hrm1
  have hc797 : 0 < gN_ σ795 1 := Nat.lt_of_lt_of_le hc771 (hx1.2.1 1)
  have hc798 : (gN_ σ 10) < gN_ σ795 10 := Nat.lt_of_lt_of_le hc772 (hx1.2.1 10)
  have hc799 : (gN_ σ17 50) < gN_ σ795 50 := Nat.lt_of_lt_of_le hc773 (hx1.2.1 50)
  have hc800 : (gN_ σ37 50) < gN_ σ795 50 := Nat.lt_of_lt_of_le hc774 (hx1.2.1 50)
  have hc801 : (gN_ σ60 50) < gN_ σ795 50 := Nat.lt_of_lt_of_le hc775 (hx1.2.1 50)
  have hc802 : (gN_ σ86 60) < gN_ σ795 60 := Nat.lt_of_lt_of_le hc776 (hx1.2.1 60)
  have hc803 : (gN_ σ115 65) < gN_ σ795 65 := Nat.lt_of_lt_of_le hc777 (hx1.2.1 65)
  have hc804 : (gN_ σ147 70) < gN_ σ795 70 := Nat.lt_of_lt_of_le hc778 (hx1.2.1 70)
  have hc805 : (gN_ σ178 72) < gN_ σ795 72 := Nat.lt_of_lt_of_le hc779 (hx1.2.1 72)
  have hc806 : (gN_ σ212 74) < gN_ σ795 74 := Nat.lt_of_lt_of_le hc780 (hx1.2.1 74)
  have hc807 : (gN_ σ249 76) < gN_ σ795 76 := Nat.lt_of_lt_of_le hc781 (hx1.2.1 76)
  have hc808 : (gN_ σ289 20) < gN_ σ795 20 := Nat.lt_of_lt_of_le hc782 (hx1.2.1 20)
  have hc809 : (gN_ σ318 21) < gN_ σ795 21 := Nat.lt_of_lt_of_le hc783 (hx1.2.1 21)
  have hc810 : (gN_ σ349 22) < gN_ σ795 22 := Nat.lt_of_lt_of_le hc784 (hx1.2.1 22)
  have hc811 : (gN_ σ382 23) < gN_ σ795 23 := Nat.lt_of_lt_of_le hc785 (hx1.2.1 23)
  have hc812 : (gN_ σ417 24) < gN_ σ795 24 := Nat.lt_of_lt_of_le hc786 (hx1.2.1 24)
  have hc813 : (gN_ σ454 25) < gN_ σ795 25 := Nat.lt_of_lt_of_le hc787 (hx1.2.1 25)
  have hc814 : (gN_ σ493 26) < gN_ σ795 26 := Nat.lt_of_lt_of_le hc788 (hx1.2.1 26)
  have hc815 : (gN_ σ534 27) < gN_ σ795 27 := Nat.lt_of_lt_of_le hc789 (hx1.2.1 27)
  have hc816 : (gN_ σ577 28) < gN_ σ795 28 := Nat.lt_of_lt_of_le hc790 (hx1.2.1 28)
  have hc817 : (gN_ σ622 29) < gN_ σ795 29 := Nat.lt_of_lt_of_le hc791 (hx1.2.1 29)
  have hc818 : (gN_ σ669 30) < gN_ σ795 30 := Nat.lt_of_lt_of_le hc792 (hx1.2.1 30)
  have hc819 : (gN_ σ718 31) < gN_ σ795 31 := Nat.lt_of_lt_of_le hc793 (hx1.2.1 31)
  have hc820 : gN_ σ769 32 < gN_ σ795 32 := by rw [e796]; exact nA_lt rfl
  rw [show ow_ 32 = 32 from rfl]
  have hl : lv_has ls 2 [(0, .ref (L 1 0))] := by rw [hx1.at hp794 (by decide)]; exact hl
  refine ww_stk (st1 := [.ref (L 32 (gN_ σ769 32)), .ref (L 1 0)]) (by rw [hx1.at hp794 (by decide)]) ?_
  have hx0 := hx0.trans hx1
  obtain ⟨σ821, e822, hs⟩ := ww_let hs
  refine ww_mark (d := (3, 32, 0)) hx hb hts hown hW 1 0 22 (gN_ σ769 32) (pr_dy hc797 rfl rfl) (tgd_3 (pr_dy hc820 rfl rfl)) (obv_0 rfl) rfl (by decide) (Nat.le_of_ble_eq_true rfl) in_X1 tyX1_ok nmX1 rfl (Nat.le_of_ble_eq_true rfl) (Or.inl (hts _ q382)) (fun _ h => h) rfl rfl (fun _ => rfl) (fun _ => rfl) (congrArg Value.ref fp_M3.symm) dX1_init_211 (fun H locs hW => ?_)
  have hW : wv g L σ821 s H locs := by rw [e822]; exact hW
  obtain ⟨hx0, hcs⟩ := lx_s (σ1 := σ821) hx0 hcs (by rw [e822]; exact (kp_M (by decide)))
  have hc823 : 0 < gN_ σ821 1 := by rw [e822]; exact hc797
  have hc824 : (gN_ σ 10) < gN_ σ821 10 := by rw [e822]; exact hc798
  have hc825 : (gN_ σ17 50) < gN_ σ821 50 := by rw [e822]; exact hc799
  have hc826 : (gN_ σ37 50) < gN_ σ821 50 := by rw [e822]; exact hc800
  have hc827 : (gN_ σ60 50) < gN_ σ821 50 := by rw [e822]; exact hc801
  have hc828 : (gN_ σ86 60) < gN_ σ821 60 := by rw [e822]; exact hc802
  have hc829 : (gN_ σ115 65) < gN_ σ821 65 := by rw [e822]; exact hc803
  have hc830 : (gN_ σ147 70) < gN_ σ821 70 := by rw [e822]; exact hc804
  have hc831 : (gN_ σ178 72) < gN_ σ821 72 := by rw [e822]; exact hc805
  have hc832 : (gN_ σ212 74) < gN_ σ821 74 := by rw [e822]; exact hc806
  have hc833 : (gN_ σ249 76) < gN_ σ821 76 := by rw [e822]; exact hc807
  have hc834 : (gN_ σ289 20) < gN_ σ821 20 := by rw [e822]; exact hc808
  have hc835 : (gN_ σ318 21) < gN_ σ821 21 := by rw [e822]; exact hc809
  have hc836 : (gN_ σ349 22) < gN_ σ821 22 := by rw [e822]; exact hc810
  have hc837 : (gN_ σ382 23) < gN_ σ821 23 := by rw [e822]; exact hc811
  have hc838 : (gN_ σ417 24) < gN_ σ821 24 := by rw [e822]; exact hc812
  have hc839 : (gN_ σ454 25) < gN_ σ821 25 := by rw [e822]; exact hc813
  have hc840 : (gN_ σ493 26) < gN_ σ821 26 := by rw [e822]; exact hc814
  have hc841 : (gN_ σ534 27) < gN_ σ821 27 := by rw [e822]; exact hc815
  have hc842 : (gN_ σ577 28) < gN_ σ821 28 := by rw [e822]; exact hc816
  have hc843 : (gN_ σ622 29) < gN_ σ821 29 := by rw [e822]; exact hc817
  have hc844 : (gN_ σ669 30) < gN_ σ821 30 := by rw [e822]; exact hc818
  have hc845 : (gN_ σ718 31) < gN_ σ821 31 := by rw [e822]; exact hc819
  have hc846 : (gN_ σ769 32) < gN_ σ821 32 := by rw [e822]; exact hc820
  refine lv_aload_n hx hb dX1_init_214 rfl (lv_at hl 0 rfl) ?_
  refine lv_bipush (v := 10) hx hb dX1_init_215 (by decide) ?_
  have hp847 : pr σ821 1 0 := (pr_dy hc823 rfl rfl)
  obtain ⟨σ848, e849, hs⟩ := ww_let hs
  obtain ⟨hs, hck⟩ := ww_ck1 hs
  have hrm1 := hcs.room (σ1 := σ848) (a := 1) (b := 10) (by rw [e849]; rfl) (by rw [e849]; rfl) hck
  refine ww_newa (atype := .int) hx hb (hts _ q201) hW 32 0 10 (Or.inl rfl) sole_32 (Or.inr hgm) rfl rfl rfl (by decide) rfl (Nat.le_of_ble_eq_true rfl) hrm1.1 hrm1.2 dX1_init_217 (fun H L hx1 hW => ?_)
  rw [← e849] at hx1 hW
  have hcs := hcs.more (σ1 := σ848) (a := 1) (b := 10) (by rw [e849]; rfl) (by rw [e849]; rfl)
  have hrm := hrm1
  have hc850 : 0 < gN_ σ848 1 := Nat.lt_of_lt_of_le hc823 (hx1.2.1 1)
  have hc851 : (gN_ σ 10) < gN_ σ848 10 := Nat.lt_of_lt_of_le hc824 (hx1.2.1 10)
  have hc852 : (gN_ σ17 50) < gN_ σ848 50 := Nat.lt_of_lt_of_le hc825 (hx1.2.1 50)
  have hc853 : (gN_ σ37 50) < gN_ σ848 50 := Nat.lt_of_lt_of_le hc826 (hx1.2.1 50)
  have hc854 : (gN_ σ60 50) < gN_ σ848 50 := Nat.lt_of_lt_of_le hc827 (hx1.2.1 50)
  have hc855 : (gN_ σ86 60) < gN_ σ848 60 := Nat.lt_of_lt_of_le hc828 (hx1.2.1 60)
  have hc856 : (gN_ σ115 65) < gN_ σ848 65 := Nat.lt_of_lt_of_le hc829 (hx1.2.1 65)
  have hc857 : (gN_ σ147 70) < gN_ σ848 70 := Nat.lt_of_lt_of_le hc830 (hx1.2.1 70)
  have hc858 : (gN_ σ178 72) < gN_ σ848 72 := Nat.lt_of_lt_of_le hc831 (hx1.2.1 72)
  have hc859 : (gN_ σ212 74) < gN_ σ848 74 := Nat.lt_of_lt_of_le hc832 (hx1.2.1 74)
  have hc860 : (gN_ σ249 76) < gN_ σ848 76 := Nat.lt_of_lt_of_le hc833 (hx1.2.1 76)
  have hc861 : (gN_ σ289 20) < gN_ σ848 20 := Nat.lt_of_lt_of_le hc834 (hx1.2.1 20)
  have hc862 : (gN_ σ318 21) < gN_ σ848 21 := Nat.lt_of_lt_of_le hc835 (hx1.2.1 21)
  have hc863 : (gN_ σ349 22) < gN_ σ848 22 := Nat.lt_of_lt_of_le hc836 (hx1.2.1 22)
  have hc864 : (gN_ σ382 23) < gN_ σ848 23 := Nat.lt_of_lt_of_le hc837 (hx1.2.1 23)
  have hc865 : (gN_ σ417 24) < gN_ σ848 24 := Nat.lt_of_lt_of_le hc838 (hx1.2.1 24)
  have hc866 : (gN_ σ454 25) < gN_ σ848 25 := Nat.lt_of_lt_of_le hc839 (hx1.2.1 25)
  have hc867 : (gN_ σ493 26) < gN_ σ848 26 := Nat.lt_of_lt_of_le hc840 (hx1.2.1 26)
  have hc868 : (gN_ σ534 27) < gN_ σ848 27 := Nat.lt_of_lt_of_le hc841 (hx1.2.1 27)
  have hc869 : (gN_ σ577 28) < gN_ σ848 28 := Nat.lt_of_lt_of_le hc842 (hx1.2.1 28)
  have hc870 : (gN_ σ622 29) < gN_ σ848 29 := Nat.lt_of_lt_of_le hc843 (hx1.2.1 29)
  have hc871 : (gN_ σ669 30) < gN_ σ848 30 := Nat.lt_of_lt_of_le hc844 (hx1.2.1 30)
  have hc872 : (gN_ σ718 31) < gN_ σ848 31 := Nat.lt_of_lt_of_le hc845 (hx1.2.1 31)
  have hc873 : (gN_ σ769 32) < gN_ σ848 32 := Nat.lt_of_lt_of_le hc846 (hx1.2.1 32)
  have hc874 : gN_ σ821 32 < gN_ σ848 32 := by rw [e849]; exact nA_lt rfl
  rw [show ow_ 32 = 32 from rfl]
  have hl : lv_has ls 2 [(0, .ref (L 1 0))] := by rw [hx1.at hp847 (by decide)]; exact hl
  refine ww_stk (st1 := [.ref (L 32 (gN_ σ821 32)), .ref (L 1 0)]) (by rw [hx1.at hp847 (by decide)]) ?_
  have hx0 := hx0.trans hx1
  obtain ⟨hc875, hs⟩ := ww_chk hs
  have hpq : pr σ848 32 (gN_ σ821 32) := (pr_dy hc874 rfl rfl)
  rw [hc875] at hpq
  obtain ⟨σ876, e877, hs⟩ := ww_let hs
  refine ww_markF (d := (1, 32, 1)) hx hb hts hown (hnm.trans rfl) hW 1 0 23 0 (pr_dy hc850 rfl rfl) (tgd_1 hpq) (obv_0 rfl) rfl (by decide) (Nat.le_of_ble_eq_true rfl) in_X1 tyX1_ok nmX1 rfl (Nat.le_of_ble_eq_true rfl) (hts _ q383) (fun _ h => h) rfl rfl rfl (fun _ => rfl) (fun _ => rfl) (by rw [hc875]; rfl) dX1_init_219 (fun H locs hW => ?_)
  have hW : wv g L σ876 s H locs := by rw [e877]; exact hW
  obtain ⟨hx0, hcs⟩ := lx_s (σ1 := σ876) hx0 hcs (by rw [e877]; exact (kp_M (by decide)))
  have hc878 : 0 < gN_ σ876 1 := by rw [e877]; exact hc850
  have hc879 : (gN_ σ 10) < gN_ σ876 10 := by rw [e877]; exact hc851
  have hc880 : (gN_ σ17 50) < gN_ σ876 50 := by rw [e877]; exact hc852
  have hc881 : (gN_ σ37 50) < gN_ σ876 50 := by rw [e877]; exact hc853
  have hc882 : (gN_ σ60 50) < gN_ σ876 50 := by rw [e877]; exact hc854
  have hc883 : (gN_ σ86 60) < gN_ σ876 60 := by rw [e877]; exact hc855
  have hc884 : (gN_ σ115 65) < gN_ σ876 65 := by rw [e877]; exact hc856
  have hc885 : (gN_ σ147 70) < gN_ σ876 70 := by rw [e877]; exact hc857
  have hc886 : (gN_ σ178 72) < gN_ σ876 72 := by rw [e877]; exact hc858
  have hc887 : (gN_ σ212 74) < gN_ σ876 74 := by rw [e877]; exact hc859
  have hc888 : (gN_ σ249 76) < gN_ σ876 76 := by rw [e877]; exact hc860
  have hc889 : (gN_ σ289 20) < gN_ σ876 20 := by rw [e877]; exact hc861
  have hc890 : (gN_ σ318 21) < gN_ σ876 21 := by rw [e877]; exact hc862
  have hc891 : (gN_ σ349 22) < gN_ σ876 22 := by rw [e877]; exact hc863
  have hc892 : (gN_ σ382 23) < gN_ σ876 23 := by rw [e877]; exact hc864
  have hc893 : (gN_ σ417 24) < gN_ σ876 24 := by rw [e877]; exact hc865
  have hc894 : (gN_ σ454 25) < gN_ σ876 25 := by rw [e877]; exact hc866
  have hc895 : (gN_ σ493 26) < gN_ σ876 26 := by rw [e877]; exact hc867
  have hc896 : (gN_ σ534 27) < gN_ σ876 27 := by rw [e877]; exact hc868
  have hc897 : (gN_ σ577 28) < gN_ σ876 28 := by rw [e877]; exact hc869
  have hc898 : (gN_ σ622 29) < gN_ σ876 29 := by rw [e877]; exact hc870
  have hc899 : (gN_ σ669 30) < gN_ σ876 30 := by rw [e877]; exact hc871
  have hc900 : (gN_ σ718 31) < gN_ σ876 31 := by rw [e877]; exact hc872
  have hc901 : (gN_ σ769 32) < gN_ σ876 32 := by rw [e877]; exact hc873
  have hc902 : (gN_ σ821 32) < gN_ σ876 32 := by rw [e877]; exact hc874
  refine lv_aload_n hx hb dX1_init_222 rfl (lv_at hl 0 rfl) ?_
  refine lv_bipush (v := 10) hx hb dX1_init_223 (by decide) ?_
  have hp903 : pr σ876 1 0 := (pr_dy hc878 rfl rfl)
  obtain ⟨σ904, e905, hs⟩ := ww_let hs
  obtain ⟨hs, hck⟩ := ww_ck1 hs
  have hrm1 := hcs.room (σ1 := σ904) (a := 1) (b := 10) (by rw [e905]; rfl) (by rw [e905]; rfl) hck
  refine ww_newa (atype := .int) hx hb (hts _ q201) hW 32 0 10 (Or.inl rfl) sole_32 (Or.inr hgm) rfl rfl rfl (by decide) rfl (Nat.le_of_ble_eq_true rfl) hrm1.1 hrm1.2 dX1_init_225 (fun H L hx1 hW => ?_)
  rw [← e905] at hx1 hW
  have hcs := hcs.more (σ1 := σ904) (a := 1) (b := 10) (by rw [e905]; rfl) (by rw [e905]; rfl)
  have hrm := hrm1
  have hc906 : 0 < gN_ σ904 1 := Nat.lt_of_lt_of_le hc878 (hx1.2.1 1)
  have hc907 : (gN_ σ 10) < gN_ σ904 10 := Nat.lt_of_lt_of_le hc879 (hx1.2.1 10)
  have hc908 : (gN_ σ17 50) < gN_ σ904 50 := Nat.lt_of_lt_of_le hc880 (hx1.2.1 50)
  have hc909 : (gN_ σ37 50) < gN_ σ904 50 := Nat.lt_of_lt_of_le hc881 (hx1.2.1 50)
  have hc910 : (gN_ σ60 50) < gN_ σ904 50 := Nat.lt_of_lt_of_le hc882 (hx1.2.1 50)
  have hc911 : (gN_ σ86 60) < gN_ σ904 60 := Nat.lt_of_lt_of_le hc883 (hx1.2.1 60)
  have hc912 : (gN_ σ115 65) < gN_ σ904 65 := Nat.lt_of_lt_of_le hc884 (hx1.2.1 65)
  have hc913 : (gN_ σ147 70) < gN_ σ904 70 := Nat.lt_of_lt_of_le hc885 (hx1.2.1 70)
  have hc914 : (gN_ σ178 72) < gN_ σ904 72 := Nat.lt_of_lt_of_le hc886 (hx1.2.1 72)
  have hc915 : (gN_ σ212 74) < gN_ σ904 74 := Nat.lt_of_lt_of_le hc887 (hx1.2.1 74)
  have hc916 : (gN_ σ249 76) < gN_ σ904 76 := Nat.lt_of_lt_of_le hc888 (hx1.2.1 76)
  have hc917 : (gN_ σ289 20) < gN_ σ904 20 := Nat.lt_of_lt_of_le hc889 (hx1.2.1 20)
  have hc918 : (gN_ σ318 21) < gN_ σ904 21 := Nat.lt_of_lt_of_le hc890 (hx1.2.1 21)
  have hc919 : (gN_ σ349 22) < gN_ σ904 22 := Nat.lt_of_lt_of_le hc891 (hx1.2.1 22)
  have hc920 : (gN_ σ382 23) < gN_ σ904 23 := Nat.lt_of_lt_of_le hc892 (hx1.2.1 23)
  have hc921 : (gN_ σ417 24) < gN_ σ904 24 := Nat.lt_of_lt_of_le hc893 (hx1.2.1 24)
  have hc922 : (gN_ σ454 25) < gN_ σ904 25 := Nat.lt_of_lt_of_le hc894 (hx1.2.1 25)
  have hc923 : (gN_ σ493 26) < gN_ σ904 26 := Nat.lt_of_lt_of_le hc895 (hx1.2.1 26)
  have hc924 : (gN_ σ534 27) < gN_ σ904 27 := Nat.lt_of_lt_of_le hc896 (hx1.2.1 27)
  have hc925 : (gN_ σ577 28) < gN_ σ904 28 := Nat.lt_of_lt_of_le hc897 (hx1.2.1 28)
  have hc926 : (gN_ σ622 29) < gN_ σ904 29 := Nat.lt_of_lt_of_le hc898 (hx1.2.1 29)
  have hc927 : (gN_ σ669 30) < gN_ σ904 30 := Nat.lt_of_lt_of_le hc899 (hx1.2.1 30)
  have hc928 : (gN_ σ718 31) < gN_ σ904 31 := Nat.lt_of_lt_of_le hc900 (hx1.2.1 31)
  have hc929 : (gN_ σ769 32) < gN_ σ904 32 := Nat.lt_of_lt_of_le hc901 (hx1.2.1 32)
  have hc930 : (gN_ σ821 32) < gN_ σ904 32 := Nat.lt_of_lt_of_le hc902 (hx1.2.1 32)
  have hc931 : gN_ σ876 32 < gN_ σ904 32 := by rw [e905]; exact nA_lt rfl
  rw [show ow_ 32 = 32 from rfl]
  have hl : lv_has ls 2 [(0, .ref (L 1 0))] := by rw [hx1.at hp903 (by decide)]; exact hl
  refine ww_stk (st1 := [.ref (L 32 (gN_ σ876 32)), .ref (L 1 0)]) (by rw [hx1.at hp903 (by decide)]) ?_
  have hx0 := hx0.trans hx1
  obtain ⟨hc932, hs⟩ := ww_chk hs
  have hpq : pr σ904 32 (gN_ σ876 32) := (pr_dy hc931 rfl rfl)
  rw [hc932] at hpq
  obtain ⟨σ933, e934, hs⟩ := ww_let hs
  refine ww_markF (d := (1, 32, 2)) hx hb hts hown (hnm.trans rfl) hW 1 0 24 0 (pr_dy hc906 rfl rfl) (tgd_1 hpq) (obv_0 rfl) rfl (by decide) (Nat.le_of_ble_eq_true rfl) in_X1 tyX1_ok nmX1 rfl (Nat.le_of_ble_eq_true rfl) (hts _ q384) (fun _ h => h) rfl rfl rfl (fun _ => rfl) (fun _ => rfl) (by rw [hc932]; rfl) dX1_init_227 (fun H locs hW => ?_)
  have hW : wv g L σ933 s H locs := by rw [e934]; exact hW
  obtain ⟨hx0, hcs⟩ := lx_s (σ1 := σ933) hx0 hcs (by rw [e934]; exact (kp_M (by decide)))
  have hc935 : 0 < gN_ σ933 1 := by rw [e934]; exact hc906
  have hc936 : (gN_ σ 10) < gN_ σ933 10 := by rw [e934]; exact hc907
  have hc937 : (gN_ σ17 50) < gN_ σ933 50 := by rw [e934]; exact hc908
  have hc938 : (gN_ σ37 50) < gN_ σ933 50 := by rw [e934]; exact hc909
  have hc939 : (gN_ σ60 50) < gN_ σ933 50 := by rw [e934]; exact hc910
  have hc940 : (gN_ σ86 60) < gN_ σ933 60 := by rw [e934]; exact hc911
  have hc941 : (gN_ σ115 65) < gN_ σ933 65 := by rw [e934]; exact hc912
  have hc942 : (gN_ σ147 70) < gN_ σ933 70 := by rw [e934]; exact hc913
  have hc943 : (gN_ σ178 72) < gN_ σ933 72 := by rw [e934]; exact hc914
  have hc944 : (gN_ σ212 74) < gN_ σ933 74 := by rw [e934]; exact hc915
  have hc945 : (gN_ σ249 76) < gN_ σ933 76 := by rw [e934]; exact hc916
  have hc946 : (gN_ σ289 20) < gN_ σ933 20 := by rw [e934]; exact hc917
  have hc947 : (gN_ σ318 21) < gN_ σ933 21 := by rw [e934]; exact hc918
  have hc948 : (gN_ σ349 22) < gN_ σ933 22 := by rw [e934]; exact hc919
  have hc949 : (gN_ σ382 23) < gN_ σ933 23 := by rw [e934]; exact hc920
  have hc950 : (gN_ σ417 24) < gN_ σ933 24 := by rw [e934]; exact hc921
  have hc951 : (gN_ σ454 25) < gN_ σ933 25 := by rw [e934]; exact hc922
  have hc952 : (gN_ σ493 26) < gN_ σ933 26 := by rw [e934]; exact hc923
  have hc953 : (gN_ σ534 27) < gN_ σ933 27 := by rw [e934]; exact hc924
  have hc954 : (gN_ σ577 28) < gN_ σ933 28 := by rw [e934]; exact hc925
  have hc955 : (gN_ σ622 29) < gN_ σ933 29 := by rw [e934]; exact hc926
  have hc956 : (gN_ σ669 30) < gN_ σ933 30 := by rw [e934]; exact hc927
  have hc957 : (gN_ σ718 31) < gN_ σ933 31 := by rw [e934]; exact hc928
  have hc958 : (gN_ σ769 32) < gN_ σ933 32 := by rw [e934]; exact hc929
  have hc959 : (gN_ σ821 32) < gN_ σ933 32 := by rw [e934]; exact hc930
  have hc960 : (gN_ σ876 32) < gN_ σ933 32 := by rw [e934]; exact hc931
  refine lv_aload_n hx hb dX1_init_230 rfl (lv_at hl 0 rfl) ?_
  refine lv_bipush (v := 10) hx hb dX1_init_231 (by decide) ?_
  have hp961 : pr σ933 1 0 := (pr_dy hc935 rfl rfl)
  obtain ⟨σ962, e963, hs⟩ := ww_let hs
  obtain ⟨hs, hck⟩ := ww_ck1 hs
  have hrm1 := hcs.room (σ1 := σ962) (a := 1) (b := 10) (by rw [e963]; rfl) (by rw [e963]; rfl) hck
  refine ww_newa (atype := .boolean) hx hb (hts _ q224) hW 35 2 10 (Or.inl rfl) sole_35 (Or.inr hgm) rfl rfl rfl (by decide) rfl (Nat.le_of_ble_eq_true rfl) hrm1.1 hrm1.2 dX1_init_233 (fun H L hx1 hW => ?_)
  rw [← e963] at hx1 hW
  have hcs := hcs.more (σ1 := σ962) (a := 1) (b := 10) (by rw [e963]; rfl) (by rw [e963]; rfl)
  have hrm := hrm1
  have hc964 : 0 < gN_ σ962 1 := Nat.lt_of_lt_of_le hc935 (hx1.2.1 1)
  have hc965 : (gN_ σ 10) < gN_ σ962 10 := Nat.lt_of_lt_of_le hc936 (hx1.2.1 10)
  have hc966 : (gN_ σ17 50) < gN_ σ962 50 := Nat.lt_of_lt_of_le hc937 (hx1.2.1 50)
  have hc967 : (gN_ σ37 50) < gN_ σ962 50 := Nat.lt_of_lt_of_le hc938 (hx1.2.1 50)
  have hc968 : (gN_ σ60 50) < gN_ σ962 50 := Nat.lt_of_lt_of_le hc939 (hx1.2.1 50)
  have hc969 : (gN_ σ86 60) < gN_ σ962 60 := Nat.lt_of_lt_of_le hc940 (hx1.2.1 60)
  have hc970 : (gN_ σ115 65) < gN_ σ962 65 := Nat.lt_of_lt_of_le hc941 (hx1.2.1 65)
  have hc971 : (gN_ σ147 70) < gN_ σ962 70 := Nat.lt_of_lt_of_le hc942 (hx1.2.1 70)
  have hc972 : (gN_ σ178 72) < gN_ σ962 72 := Nat.lt_of_lt_of_le hc943 (hx1.2.1 72)
  have hc973 : (gN_ σ212 74) < gN_ σ962 74 := Nat.lt_of_lt_of_le hc944 (hx1.2.1 74)
  have hc974 : (gN_ σ249 76) < gN_ σ962 76 := Nat.lt_of_lt_of_le hc945 (hx1.2.1 76)
  have hc975 : (gN_ σ289 20) < gN_ σ962 20 := Nat.lt_of_lt_of_le hc946 (hx1.2.1 20)
  have hc976 : (gN_ σ318 21) < gN_ σ962 21 := Nat.lt_of_lt_of_le hc947 (hx1.2.1 21)
  have hc977 : (gN_ σ349 22) < gN_ σ962 22 := Nat.lt_of_lt_of_le hc948 (hx1.2.1 22)
  have hc978 : (gN_ σ382 23) < gN_ σ962 23 := Nat.lt_of_lt_of_le hc949 (hx1.2.1 23)
  have hc979 : (gN_ σ417 24) < gN_ σ962 24 := Nat.lt_of_lt_of_le hc950 (hx1.2.1 24)
  have hc980 : (gN_ σ454 25) < gN_ σ962 25 := Nat.lt_of_lt_of_le hc951 (hx1.2.1 25)
  have hc981 : (gN_ σ493 26) < gN_ σ962 26 := Nat.lt_of_lt_of_le hc952 (hx1.2.1 26)
  have hc982 : (gN_ σ534 27) < gN_ σ962 27 := Nat.lt_of_lt_of_le hc953 (hx1.2.1 27)
  have hc983 : (gN_ σ577 28) < gN_ σ962 28 := Nat.lt_of_lt_of_le hc954 (hx1.2.1 28)
  have hc984 : (gN_ σ622 29) < gN_ σ962 29 := Nat.lt_of_lt_of_le hc955 (hx1.2.1 29)
  have hc985 : (gN_ σ669 30) < gN_ σ962 30 := Nat.lt_of_lt_of_le hc956 (hx1.2.1 30)
  have hc986 : (gN_ σ718 31) < gN_ σ962 31 := Nat.lt_of_lt_of_le hc957 (hx1.2.1 31)
  have hc987 : (gN_ σ769 32) < gN_ σ962 32 := Nat.lt_of_lt_of_le hc958 (hx1.2.1 32)
  have hc988 : (gN_ σ821 32) < gN_ σ962 32 := Nat.lt_of_lt_of_le hc959 (hx1.2.1 32)
  have hc989 : (gN_ σ876 32) < gN_ σ962 32 := Nat.lt_of_lt_of_le hc960 (hx1.2.1 32)
  have hc990 : gN_ σ933 35 < gN_ σ962 35 := by rw [e963]; exact nA_lt rfl
  rw [show ow_ 35 = 35 from rfl]
  have hl : lv_has ls 2 [(0, .ref (L 1 0))] := by rw [hx1.at hp961 (by decide)]; exact hl
  refine ww_stk (st1 := [.ref (L 35 (gN_ σ933 35)), .ref (L 1 0)]) (by rw [hx1.at hp961 (by decide)]) ?_
  have hx0 := hx0.trans hx1
  obtain ⟨hc991, hs⟩ := ww_chk hs
  have hpq : pr σ962 35 (gN_ σ933 35) := (pr_dy hc990 rfl rfl)
  rw [hc991] at hpq
  obtain ⟨σ992, e993, hs⟩ := ww_let hs
  refine ww_markF (d := (1, 35, 0)) hx hb hts hown (hnm.trans rfl) hW 1 0 25 0 (pr_dy hc964 rfl rfl) (tgd_1 hpq) (obv_0 rfl) rfl (by decide) (Nat.le_of_ble_eq_true rfl) in_X1 tyX1_ok nmX1 rfl (Nat.le_of_ble_eq_true rfl) (hts _ q386) (fun _ h => h) rfl rfl rfl (fun _ => rfl) (fun _ => rfl) (by rw [hc991]; rfl) dX1_init_235 (fun H locs hW => ?_)
  have hW : wv g L σ992 s H locs := by rw [e993]; exact hW
  obtain ⟨hx0, hcs⟩ := lx_s (σ1 := σ992) hx0 hcs (by rw [e993]; exact (kp_M (by decide)))
  have hc994 : 0 < gN_ σ992 1 := by rw [e993]; exact hc964
  have hc995 : (gN_ σ 10) < gN_ σ992 10 := by rw [e993]; exact hc965
  have hc996 : (gN_ σ17 50) < gN_ σ992 50 := by rw [e993]; exact hc966
  have hc997 : (gN_ σ37 50) < gN_ σ992 50 := by rw [e993]; exact hc967
  have hc998 : (gN_ σ60 50) < gN_ σ992 50 := by rw [e993]; exact hc968
  have hc999 : (gN_ σ86 60) < gN_ σ992 60 := by rw [e993]; exact hc969
  have hc1000 : (gN_ σ115 65) < gN_ σ992 65 := by rw [e993]; exact hc970
  have hc1001 : (gN_ σ147 70) < gN_ σ992 70 := by rw [e993]; exact hc971
  have hc1002 : (gN_ σ178 72) < gN_ σ992 72 := by rw [e993]; exact hc972
  have hc1003 : (gN_ σ212 74) < gN_ σ992 74 := by rw [e993]; exact hc973
  have hc1004 : (gN_ σ249 76) < gN_ σ992 76 := by rw [e993]; exact hc974
  have hc1005 : (gN_ σ289 20) < gN_ σ992 20 := by rw [e993]; exact hc975
  have hc1006 : (gN_ σ318 21) < gN_ σ992 21 := by rw [e993]; exact hc976
  have hc1007 : (gN_ σ349 22) < gN_ σ992 22 := by rw [e993]; exact hc977
  have hc1008 : (gN_ σ382 23) < gN_ σ992 23 := by rw [e993]; exact hc978
  have hc1009 : (gN_ σ417 24) < gN_ σ992 24 := by rw [e993]; exact hc979
  have hc1010 : (gN_ σ454 25) < gN_ σ992 25 := by rw [e993]; exact hc980
  have hc1011 : (gN_ σ493 26) < gN_ σ992 26 := by rw [e993]; exact hc981
  have hc1012 : (gN_ σ534 27) < gN_ σ992 27 := by rw [e993]; exact hc982
  have hc1013 : (gN_ σ577 28) < gN_ σ992 28 := by rw [e993]; exact hc983
  have hc1014 : (gN_ σ622 29) < gN_ σ992 29 := by rw [e993]; exact hc984
  have hc1015 : (gN_ σ669 30) < gN_ σ992 30 := by rw [e993]; exact hc985
  have hc1016 : (gN_ σ718 31) < gN_ σ992 31 := by rw [e993]; exact hc986
  have hc1017 : (gN_ σ769 32) < gN_ σ992 32 := by rw [e993]; exact hc987
  have hc1018 : (gN_ σ821 32) < gN_ σ992 32 := by rw [e993]; exact hc988
  have hc1019 : (gN_ σ876 32) < gN_ σ992 32 := by rw [e993]; exact hc989
  have hc1020 : (gN_ σ933 35) < gN_ σ992 35 := by rw [e993]; exact hc990
  refine lv_aload_n hx hb dX1_init_238 rfl (lv_at hl 0 rfl) ?_
  refine lv_bipush (v := 10) hx hb dX1_init_239 (by decide) ?_
  have hp1021 : pr σ992 1 0 := (pr_dy hc994 rfl rfl)
  obtain ⟨σ1022, e1023, hs⟩ := ww_let hs
  obtain ⟨hs, hck⟩ := ww_ck1 hs
  have hrm1 := hcs.room (σ1 := σ1022) (a := 1) (b := 10) (by rw [e1023]; rfl) (by rw [e1023]; rfl) hck
  refine ww_newa (atype := .boolean) hx hb (hts _ q224) hW 36 2 10 (Or.inl rfl) sole_36 (Or.inr hgm) rfl rfl rfl (by decide) rfl (Nat.le_of_ble_eq_true rfl) hrm1.1 hrm1.2 dX1_init_241 (fun H L hx1 hW => ?_)
  rw [← e1023] at hx1 hW
  have hcs := hcs.more (σ1 := σ1022) (a := 1) (b := 10) (by rw [e1023]; rfl) (by rw [e1023]; rfl)
  have hrm := hrm1
  have hc1024 : 0 < gN_ σ1022 1 := Nat.lt_of_lt_of_le hc994 (hx1.2.1 1)
  have hc1025 : (gN_ σ 10) < gN_ σ1022 10 := Nat.lt_of_lt_of_le hc995 (hx1.2.1 10)
  have hc1026 : (gN_ σ17 50) < gN_ σ1022 50 := Nat.lt_of_lt_of_le hc996 (hx1.2.1 50)
  have hc1027 : (gN_ σ37 50) < gN_ σ1022 50 := Nat.lt_of_lt_of_le hc997 (hx1.2.1 50)
  have hc1028 : (gN_ σ60 50) < gN_ σ1022 50 := Nat.lt_of_lt_of_le hc998 (hx1.2.1 50)
  have hc1029 : (gN_ σ86 60) < gN_ σ1022 60 := Nat.lt_of_lt_of_le hc999 (hx1.2.1 60)
  have hc1030 : (gN_ σ115 65) < gN_ σ1022 65 := Nat.lt_of_lt_of_le hc1000 (hx1.2.1 65)
  have hc1031 : (gN_ σ147 70) < gN_ σ1022 70 := Nat.lt_of_lt_of_le hc1001 (hx1.2.1 70)
  have hc1032 : (gN_ σ178 72) < gN_ σ1022 72 := Nat.lt_of_lt_of_le hc1002 (hx1.2.1 72)
  have hc1033 : (gN_ σ212 74) < gN_ σ1022 74 := Nat.lt_of_lt_of_le hc1003 (hx1.2.1 74)
  have hc1034 : (gN_ σ249 76) < gN_ σ1022 76 := Nat.lt_of_lt_of_le hc1004 (hx1.2.1 76)
  have hc1035 : (gN_ σ289 20) < gN_ σ1022 20 := Nat.lt_of_lt_of_le hc1005 (hx1.2.1 20)
  have hc1036 : (gN_ σ318 21) < gN_ σ1022 21 := Nat.lt_of_lt_of_le hc1006 (hx1.2.1 21)
  have hc1037 : (gN_ σ349 22) < gN_ σ1022 22 := Nat.lt_of_lt_of_le hc1007 (hx1.2.1 22)
  have hc1038 : (gN_ σ382 23) < gN_ σ1022 23 := Nat.lt_of_lt_of_le hc1008 (hx1.2.1 23)
  have hc1039 : (gN_ σ417 24) < gN_ σ1022 24 := Nat.lt_of_lt_of_le hc1009 (hx1.2.1 24)
  have hc1040 : (gN_ σ454 25) < gN_ σ1022 25 := Nat.lt_of_lt_of_le hc1010 (hx1.2.1 25)
  have hc1041 : (gN_ σ493 26) < gN_ σ1022 26 := Nat.lt_of_lt_of_le hc1011 (hx1.2.1 26)
  have hc1042 : (gN_ σ534 27) < gN_ σ1022 27 := Nat.lt_of_lt_of_le hc1012 (hx1.2.1 27)
  have hc1043 : (gN_ σ577 28) < gN_ σ1022 28 := Nat.lt_of_lt_of_le hc1013 (hx1.2.1 28)
  have hc1044 : (gN_ σ622 29) < gN_ σ1022 29 := Nat.lt_of_lt_of_le hc1014 (hx1.2.1 29)
  have hc1045 : (gN_ σ669 30) < gN_ σ1022 30 := Nat.lt_of_lt_of_le hc1015 (hx1.2.1 30)
  have hc1046 : (gN_ σ718 31) < gN_ σ1022 31 := Nat.lt_of_lt_of_le hc1016 (hx1.2.1 31)
  have hc1047 : (gN_ σ769 32) < gN_ σ1022 32 := Nat.lt_of_lt_of_le hc1017 (hx1.2.1 32)
  have hc1048 : (gN_ σ821 32) < gN_ σ1022 32 := Nat.lt_of_lt_of_le hc1018 (hx1.2.1 32)
  have hc1049 : (gN_ σ876 32) < gN_ σ1022 32 := Nat.lt_of_lt_of_le hc1019 (hx1.2.1 32)
  have hc1050 : (gN_ σ933 35) < gN_ σ1022 35 := Nat.lt_of_lt_of_le hc1020 (hx1.2.1 35)
  have hc1051 : gN_ σ992 36 < gN_ σ1022 36 := by rw [e1023]; exact nA_lt rfl
  rw [show ow_ 36 = 36 from rfl]
  have hl : lv_has ls 2 [(0, .ref (L 1 0))] := by rw [hx1.at hp1021 (by decide)]; exact hl
  refine ww_stk (st1 := [.ref (L 36 (gN_ σ992 36)), .ref (L 1 0)]) (by rw [hx1.at hp1021 (by decide)]) ?_
  have hx0 := hx0.trans hx1
  obtain ⟨hc1052, hs⟩ := ww_chk hs
  have hpq : pr σ1022 36 (gN_ σ992 36) := (pr_dy hc1051 rfl rfl)
  rw [hc1052] at hpq
  obtain ⟨σ1053, e1054, hs⟩ := ww_let hs
  refine ww_markF (d := (1, 36, 0)) hx hb hts hown (hnm.trans rfl) hW 1 0 26 0 (pr_dy hc1024 rfl rfl) (tgd_1 hpq) (obv_0 rfl) rfl (by decide) (Nat.le_of_ble_eq_true rfl) in_X1 tyX1_ok nmX1 rfl (Nat.le_of_ble_eq_true rfl) (hts _ q388) (fun _ h => h) rfl rfl rfl (fun _ => rfl) (fun _ => rfl) (by rw [hc1052]; rfl) dX1_init_243 (fun H locs hW => ?_)
  have hW : wv g L σ1053 s H locs := by rw [e1054]; exact hW
  obtain ⟨hx0, hcs⟩ := lx_s (σ1 := σ1053) hx0 hcs (by rw [e1054]; exact (kp_M (by decide)))
  have hc1055 : 0 < gN_ σ1053 1 := by rw [e1054]; exact hc1024
  have hc1056 : (gN_ σ 10) < gN_ σ1053 10 := by rw [e1054]; exact hc1025
  have hc1057 : (gN_ σ17 50) < gN_ σ1053 50 := by rw [e1054]; exact hc1026
  have hc1058 : (gN_ σ37 50) < gN_ σ1053 50 := by rw [e1054]; exact hc1027
  have hc1059 : (gN_ σ60 50) < gN_ σ1053 50 := by rw [e1054]; exact hc1028
  have hc1060 : (gN_ σ86 60) < gN_ σ1053 60 := by rw [e1054]; exact hc1029
  have hc1061 : (gN_ σ115 65) < gN_ σ1053 65 := by rw [e1054]; exact hc1030
  have hc1062 : (gN_ σ147 70) < gN_ σ1053 70 := by rw [e1054]; exact hc1031
  have hc1063 : (gN_ σ178 72) < gN_ σ1053 72 := by rw [e1054]; exact hc1032
  have hc1064 : (gN_ σ212 74) < gN_ σ1053 74 := by rw [e1054]; exact hc1033
  have hc1065 : (gN_ σ249 76) < gN_ σ1053 76 := by rw [e1054]; exact hc1034
  have hc1066 : (gN_ σ289 20) < gN_ σ1053 20 := by rw [e1054]; exact hc1035
  have hc1067 : (gN_ σ318 21) < gN_ σ1053 21 := by rw [e1054]; exact hc1036
  have hc1068 : (gN_ σ349 22) < gN_ σ1053 22 := by rw [e1054]; exact hc1037
  have hc1069 : (gN_ σ382 23) < gN_ σ1053 23 := by rw [e1054]; exact hc1038
  have hc1070 : (gN_ σ417 24) < gN_ σ1053 24 := by rw [e1054]; exact hc1039
  have hc1071 : (gN_ σ454 25) < gN_ σ1053 25 := by rw [e1054]; exact hc1040
  have hc1072 : (gN_ σ493 26) < gN_ σ1053 26 := by rw [e1054]; exact hc1041
  have hc1073 : (gN_ σ534 27) < gN_ σ1053 27 := by rw [e1054]; exact hc1042
  have hc1074 : (gN_ σ577 28) < gN_ σ1053 28 := by rw [e1054]; exact hc1043
  have hc1075 : (gN_ σ622 29) < gN_ σ1053 29 := by rw [e1054]; exact hc1044
  have hc1076 : (gN_ σ669 30) < gN_ σ1053 30 := by rw [e1054]; exact hc1045
  have hc1077 : (gN_ σ718 31) < gN_ σ1053 31 := by rw [e1054]; exact hc1046
  have hc1078 : (gN_ σ769 32) < gN_ σ1053 32 := by rw [e1054]; exact hc1047
  have hc1079 : (gN_ σ821 32) < gN_ σ1053 32 := by rw [e1054]; exact hc1048
  have hc1080 : (gN_ σ876 32) < gN_ σ1053 32 := by rw [e1054]; exact hc1049
  have hc1081 : (gN_ σ933 35) < gN_ σ1053 35 := by rw [e1054]; exact hc1050
  have hc1082 : (gN_ σ992 36) < gN_ σ1053 36 := by rw [e1054]; exact hc1051
  refine lv_aload_n hx hb dX1_init_246 rfl (lv_at hl 0 rfl) ?_
  refine lv_bipush (v := 64) hx hb dX1_init_247 (by decide) ?_
  have hp1083 : pr σ1053 1 0 := (pr_dy hc1055 rfl rfl)
  obtain ⟨σ1084, e1085, hs⟩ := ww_let hs
  obtain ⟨hs, hck⟩ := ww_ck1 hs
  have hrm1 := hcs.room (σ1 := σ1084) (a := 1) (b := 64) (by rw [e1085]; rfl) (by rw [e1085]; rfl) hck
  refine ww_newa (atype := .boolean) hx hb (hts _ q224) hW 37 2 64 (Or.inl rfl) sole_37 (Or.inr hgm) rfl rfl rfl (by decide) rfl (Nat.le_of_ble_eq_true rfl) hrm1.1 hrm1.2 dX1_init_249 (fun H L hx1 hW => ?_)
  rw [← e1085] at hx1 hW
  have hcs := hcs.more (σ1 := σ1084) (a := 1) (b := 64) (by rw [e1085]; rfl) (by rw [e1085]; rfl)
  have hrm := hrm1
  have hc1086 : 0 < gN_ σ1084 1 := Nat.lt_of_lt_of_le hc1055 (hx1.2.1 1)
  have hc1087 : (gN_ σ 10) < gN_ σ1084 10 := Nat.lt_of_lt_of_le hc1056 (hx1.2.1 10)
  have hc1088 : (gN_ σ17 50) < gN_ σ1084 50 := Nat.lt_of_lt_of_le hc1057 (hx1.2.1 50)
  have hc1089 : (gN_ σ37 50) < gN_ σ1084 50 := Nat.lt_of_lt_of_le hc1058 (hx1.2.1 50)
  have hc1090 : (gN_ σ60 50) < gN_ σ1084 50 := Nat.lt_of_lt_of_le hc1059 (hx1.2.1 50)
  have hc1091 : (gN_ σ86 60) < gN_ σ1084 60 := Nat.lt_of_lt_of_le hc1060 (hx1.2.1 60)
  have hc1092 : (gN_ σ115 65) < gN_ σ1084 65 := Nat.lt_of_lt_of_le hc1061 (hx1.2.1 65)
  have hc1093 : (gN_ σ147 70) < gN_ σ1084 70 := Nat.lt_of_lt_of_le hc1062 (hx1.2.1 70)
  have hc1094 : (gN_ σ178 72) < gN_ σ1084 72 := Nat.lt_of_lt_of_le hc1063 (hx1.2.1 72)
  have hc1095 : (gN_ σ212 74) < gN_ σ1084 74 := Nat.lt_of_lt_of_le hc1064 (hx1.2.1 74)
  have hc1096 : (gN_ σ249 76) < gN_ σ1084 76 := Nat.lt_of_lt_of_le hc1065 (hx1.2.1 76)
  have hc1097 : (gN_ σ289 20) < gN_ σ1084 20 := Nat.lt_of_lt_of_le hc1066 (hx1.2.1 20)
  have hc1098 : (gN_ σ318 21) < gN_ σ1084 21 := Nat.lt_of_lt_of_le hc1067 (hx1.2.1 21)
  have hc1099 : (gN_ σ349 22) < gN_ σ1084 22 := Nat.lt_of_lt_of_le hc1068 (hx1.2.1 22)
  have hc1100 : (gN_ σ382 23) < gN_ σ1084 23 := Nat.lt_of_lt_of_le hc1069 (hx1.2.1 23)
  have hc1101 : (gN_ σ417 24) < gN_ σ1084 24 := Nat.lt_of_lt_of_le hc1070 (hx1.2.1 24)
  have hc1102 : (gN_ σ454 25) < gN_ σ1084 25 := Nat.lt_of_lt_of_le hc1071 (hx1.2.1 25)
  have hc1103 : (gN_ σ493 26) < gN_ σ1084 26 := Nat.lt_of_lt_of_le hc1072 (hx1.2.1 26)
  have hc1104 : (gN_ σ534 27) < gN_ σ1084 27 := Nat.lt_of_lt_of_le hc1073 (hx1.2.1 27)
  have hc1105 : (gN_ σ577 28) < gN_ σ1084 28 := Nat.lt_of_lt_of_le hc1074 (hx1.2.1 28)
  have hc1106 : (gN_ σ622 29) < gN_ σ1084 29 := Nat.lt_of_lt_of_le hc1075 (hx1.2.1 29)
  have hc1107 : (gN_ σ669 30) < gN_ σ1084 30 := Nat.lt_of_lt_of_le hc1076 (hx1.2.1 30)
  have hc1108 : (gN_ σ718 31) < gN_ σ1084 31 := Nat.lt_of_lt_of_le hc1077 (hx1.2.1 31)
  have hc1109 : (gN_ σ769 32) < gN_ σ1084 32 := Nat.lt_of_lt_of_le hc1078 (hx1.2.1 32)
  have hc1110 : (gN_ σ821 32) < gN_ σ1084 32 := Nat.lt_of_lt_of_le hc1079 (hx1.2.1 32)
  have hc1111 : (gN_ σ876 32) < gN_ σ1084 32 := Nat.lt_of_lt_of_le hc1080 (hx1.2.1 32)
  have hc1112 : (gN_ σ933 35) < gN_ σ1084 35 := Nat.lt_of_lt_of_le hc1081 (hx1.2.1 35)
  have hc1113 : (gN_ σ992 36) < gN_ σ1084 36 := Nat.lt_of_lt_of_le hc1082 (hx1.2.1 36)
  have hc1114 : gN_ σ1053 37 < gN_ σ1084 37 := by rw [e1085]; exact nA_lt rfl
  rw [show ow_ 37 = 37 from rfl]
  have hl : lv_has ls 2 [(0, .ref (L 1 0))] := by rw [hx1.at hp1083 (by decide)]; exact hl
  refine ww_stk (st1 := [.ref (L 37 (gN_ σ1053 37)), .ref (L 1 0)]) (by rw [hx1.at hp1083 (by decide)]) ?_
  have hx0 := hx0.trans hx1
  obtain ⟨hc1115, hs⟩ := ww_chk hs
  have hpq : pr σ1084 37 (gN_ σ1053 37) := (pr_dy hc1114 rfl rfl)
  rw [hc1115] at hpq
  obtain ⟨σ1116, e1117, hs⟩ := ww_let hs
  refine ww_markF (d := (1, 37, 0)) hx hb hts hown (hnm.trans rfl) hW 1 0 27 0 (pr_dy hc1086 rfl rfl) (tgd_1 hpq) (obv_0 rfl) rfl (by decide) (Nat.le_of_ble_eq_true rfl) in_X1 tyX1_ok nmX1 rfl (Nat.le_of_ble_eq_true rfl) (hts _ q389) (fun _ h => h) rfl rfl rfl (fun _ => rfl) (fun _ => rfl) (by rw [hc1115]; rfl) dX1_init_251 (fun H locs hW => ?_)
  have hW : wv g L σ1116 s H locs := by rw [e1117]; exact hW
  obtain ⟨hx0, hcs⟩ := lx_s (σ1 := σ1116) hx0 hcs (by rw [e1117]; exact (kp_M (by decide)))
  have hc1118 : 0 < gN_ σ1116 1 := by rw [e1117]; exact hc1086
  have hc1119 : (gN_ σ 10) < gN_ σ1116 10 := by rw [e1117]; exact hc1087
  have hc1120 : (gN_ σ17 50) < gN_ σ1116 50 := by rw [e1117]; exact hc1088
  have hc1121 : (gN_ σ37 50) < gN_ σ1116 50 := by rw [e1117]; exact hc1089
  have hc1122 : (gN_ σ60 50) < gN_ σ1116 50 := by rw [e1117]; exact hc1090
  have hc1123 : (gN_ σ86 60) < gN_ σ1116 60 := by rw [e1117]; exact hc1091
  have hc1124 : (gN_ σ115 65) < gN_ σ1116 65 := by rw [e1117]; exact hc1092
  have hc1125 : (gN_ σ147 70) < gN_ σ1116 70 := by rw [e1117]; exact hc1093
  have hc1126 : (gN_ σ178 72) < gN_ σ1116 72 := by rw [e1117]; exact hc1094
  have hc1127 : (gN_ σ212 74) < gN_ σ1116 74 := by rw [e1117]; exact hc1095
  have hc1128 : (gN_ σ249 76) < gN_ σ1116 76 := by rw [e1117]; exact hc1096
  have hc1129 : (gN_ σ289 20) < gN_ σ1116 20 := by rw [e1117]; exact hc1097
  have hc1130 : (gN_ σ318 21) < gN_ σ1116 21 := by rw [e1117]; exact hc1098
  have hc1131 : (gN_ σ349 22) < gN_ σ1116 22 := by rw [e1117]; exact hc1099
  have hc1132 : (gN_ σ382 23) < gN_ σ1116 23 := by rw [e1117]; exact hc1100
  have hc1133 : (gN_ σ417 24) < gN_ σ1116 24 := by rw [e1117]; exact hc1101
  have hc1134 : (gN_ σ454 25) < gN_ σ1116 25 := by rw [e1117]; exact hc1102
  have hc1135 : (gN_ σ493 26) < gN_ σ1116 26 := by rw [e1117]; exact hc1103
  have hc1136 : (gN_ σ534 27) < gN_ σ1116 27 := by rw [e1117]; exact hc1104
  have hc1137 : (gN_ σ577 28) < gN_ σ1116 28 := by rw [e1117]; exact hc1105
  have hc1138 : (gN_ σ622 29) < gN_ σ1116 29 := by rw [e1117]; exact hc1106
  have hc1139 : (gN_ σ669 30) < gN_ σ1116 30 := by rw [e1117]; exact hc1107
  have hc1140 : (gN_ σ718 31) < gN_ σ1116 31 := by rw [e1117]; exact hc1108
  have hc1141 : (gN_ σ769 32) < gN_ σ1116 32 := by rw [e1117]; exact hc1109
  have hc1142 : (gN_ σ821 32) < gN_ σ1116 32 := by rw [e1117]; exact hc1110
  have hc1143 : (gN_ σ876 32) < gN_ σ1116 32 := by rw [e1117]; exact hc1111
  have hc1144 : (gN_ σ933 35) < gN_ σ1116 35 := by rw [e1117]; exact hc1112
  have hc1145 : (gN_ σ992 36) < gN_ σ1116 36 := by rw [e1117]; exact hc1113
  have hc1146 : (gN_ σ1053 37) < gN_ σ1116 37 := by rw [e1117]; exact hc1114
  refine lv_aload_n hx hb dX1_init_254 rfl (lv_at hl 0 rfl) ?_
  refine lv_bipush (v := 64) hx hb dX1_init_255 (by decide) ?_
  have hp1147 : pr σ1116 1 0 := (pr_dy hc1118 rfl rfl)
  obtain ⟨σ1148, e1149, hs⟩ := ww_let hs
  obtain ⟨hs, hck⟩ := ww_ck1 hs
  have hrm1 := hcs.room (σ1 := σ1148) (a := 1) (b := 64) (by rw [e1149]; rfl) (by rw [e1149]; rfl) hck
  refine ww_newa (atype := .boolean) hx hb (hts _ q224) hW 38 2 64 (Or.inl rfl) sole_38 (Or.inr hgm) rfl rfl rfl (by decide) rfl (Nat.le_of_ble_eq_true rfl) hrm1.1 hrm1.2 dX1_init_257 (fun H L hx1 hW => ?_)
  rw [← e1149] at hx1 hW
  have hcs := hcs.more (σ1 := σ1148) (a := 1) (b := 64) (by rw [e1149]; rfl) (by rw [e1149]; rfl)
  have hrm := hrm1
  have hc1150 : 0 < gN_ σ1148 1 := Nat.lt_of_lt_of_le hc1118 (hx1.2.1 1)
  have hc1151 : (gN_ σ 10) < gN_ σ1148 10 := Nat.lt_of_lt_of_le hc1119 (hx1.2.1 10)
  have hc1152 : (gN_ σ17 50) < gN_ σ1148 50 := Nat.lt_of_lt_of_le hc1120 (hx1.2.1 50)
  have hc1153 : (gN_ σ37 50) < gN_ σ1148 50 := Nat.lt_of_lt_of_le hc1121 (hx1.2.1 50)
  have hc1154 : (gN_ σ60 50) < gN_ σ1148 50 := Nat.lt_of_lt_of_le hc1122 (hx1.2.1 50)
  have hc1155 : (gN_ σ86 60) < gN_ σ1148 60 := Nat.lt_of_lt_of_le hc1123 (hx1.2.1 60)
  have hc1156 : (gN_ σ115 65) < gN_ σ1148 65 := Nat.lt_of_lt_of_le hc1124 (hx1.2.1 65)
  have hc1157 : (gN_ σ147 70) < gN_ σ1148 70 := Nat.lt_of_lt_of_le hc1125 (hx1.2.1 70)
  have hc1158 : (gN_ σ178 72) < gN_ σ1148 72 := Nat.lt_of_lt_of_le hc1126 (hx1.2.1 72)
  have hc1159 : (gN_ σ212 74) < gN_ σ1148 74 := Nat.lt_of_lt_of_le hc1127 (hx1.2.1 74)
  have hc1160 : (gN_ σ249 76) < gN_ σ1148 76 := Nat.lt_of_lt_of_le hc1128 (hx1.2.1 76)
  have hc1161 : (gN_ σ289 20) < gN_ σ1148 20 := Nat.lt_of_lt_of_le hc1129 (hx1.2.1 20)
  have hc1162 : (gN_ σ318 21) < gN_ σ1148 21 := Nat.lt_of_lt_of_le hc1130 (hx1.2.1 21)
  have hc1163 : (gN_ σ349 22) < gN_ σ1148 22 := Nat.lt_of_lt_of_le hc1131 (hx1.2.1 22)
  have hc1164 : (gN_ σ382 23) < gN_ σ1148 23 := Nat.lt_of_lt_of_le hc1132 (hx1.2.1 23)
  have hc1165 : (gN_ σ417 24) < gN_ σ1148 24 := Nat.lt_of_lt_of_le hc1133 (hx1.2.1 24)
  have hc1166 : (gN_ σ454 25) < gN_ σ1148 25 := Nat.lt_of_lt_of_le hc1134 (hx1.2.1 25)
  have hc1167 : (gN_ σ493 26) < gN_ σ1148 26 := Nat.lt_of_lt_of_le hc1135 (hx1.2.1 26)
  have hc1168 : (gN_ σ534 27) < gN_ σ1148 27 := Nat.lt_of_lt_of_le hc1136 (hx1.2.1 27)
  have hc1169 : (gN_ σ577 28) < gN_ σ1148 28 := Nat.lt_of_lt_of_le hc1137 (hx1.2.1 28)
  have hc1170 : (gN_ σ622 29) < gN_ σ1148 29 := Nat.lt_of_lt_of_le hc1138 (hx1.2.1 29)
  have hc1171 : (gN_ σ669 30) < gN_ σ1148 30 := Nat.lt_of_lt_of_le hc1139 (hx1.2.1 30)
  have hc1172 : (gN_ σ718 31) < gN_ σ1148 31 := Nat.lt_of_lt_of_le hc1140 (hx1.2.1 31)
  have hc1173 : (gN_ σ769 32) < gN_ σ1148 32 := Nat.lt_of_lt_of_le hc1141 (hx1.2.1 32)
  have hc1174 : (gN_ σ821 32) < gN_ σ1148 32 := Nat.lt_of_lt_of_le hc1142 (hx1.2.1 32)
  have hc1175 : (gN_ σ876 32) < gN_ σ1148 32 := Nat.lt_of_lt_of_le hc1143 (hx1.2.1 32)
  have hc1176 : (gN_ σ933 35) < gN_ σ1148 35 := Nat.lt_of_lt_of_le hc1144 (hx1.2.1 35)
  have hc1177 : (gN_ σ992 36) < gN_ σ1148 36 := Nat.lt_of_lt_of_le hc1145 (hx1.2.1 36)
  have hc1178 : (gN_ σ1053 37) < gN_ σ1148 37 := Nat.lt_of_lt_of_le hc1146 (hx1.2.1 37)
  have hc1179 : gN_ σ1116 38 < gN_ σ1148 38 := by rw [e1149]; exact nA_lt rfl
  rw [show ow_ 38 = 38 from rfl]
  have hl : lv_has ls 2 [(0, .ref (L 1 0))] := by rw [hx1.at hp1147 (by decide)]; exact hl
  refine ww_stk (st1 := [.ref (L 38 (gN_ σ1116 38)), .ref (L 1 0)]) (by rw [hx1.at hp1147 (by decide)]) ?_
  have hx0 := hx0.trans hx1
  obtain ⟨hc1180, hs⟩ := ww_chk hs
  have hpq : pr σ1148 38 (gN_ σ1116 38) := (pr_dy hc1179 rfl rfl)
  rw [hc1180] at hpq
  obtain ⟨σ1181, e1182, hs⟩ := ww_let hs
  refine ww_markF (d := (1, 38, 0)) hx hb hts hown (hnm.trans rfl) hW 1 0 28 0 (pr_dy hc1150 rfl rfl) (tgd_1 hpq) (obv_0 rfl) rfl (by decide) (Nat.le_of_ble_eq_true rfl) in_X1 tyX1_ok nmX1 rfl (Nat.le_of_ble_eq_true rfl) (hts _ q390) (fun _ h => h) rfl rfl rfl (fun _ => rfl) (fun _ => rfl) (by rw [hc1180]; rfl) dX1_init_259 (fun H locs hW => ?_)
  have hW : wv g L σ1181 s H locs := by rw [e1182]; exact hW
  obtain ⟨hx0, hcs⟩ := lx_s (σ1 := σ1181) hx0 hcs (by rw [e1182]; exact (kp_M (by decide)))
  have hc1183 : 0 < gN_ σ1181 1 := by rw [e1182]; exact hc1150
  have hc1184 : (gN_ σ 10) < gN_ σ1181 10 := by rw [e1182]; exact hc1151
  have hc1185 : (gN_ σ17 50) < gN_ σ1181 50 := by rw [e1182]; exact hc1152
  have hc1186 : (gN_ σ37 50) < gN_ σ1181 50 := by rw [e1182]; exact hc1153
  have hc1187 : (gN_ σ60 50) < gN_ σ1181 50 := by rw [e1182]; exact hc1154
  have hc1188 : (gN_ σ86 60) < gN_ σ1181 60 := by rw [e1182]; exact hc1155
  have hc1189 : (gN_ σ115 65) < gN_ σ1181 65 := by rw [e1182]; exact hc1156
  have hc1190 : (gN_ σ147 70) < gN_ σ1181 70 := by rw [e1182]; exact hc1157
  have hc1191 : (gN_ σ178 72) < gN_ σ1181 72 := by rw [e1182]; exact hc1158
  have hc1192 : (gN_ σ212 74) < gN_ σ1181 74 := by rw [e1182]; exact hc1159
  have hc1193 : (gN_ σ249 76) < gN_ σ1181 76 := by rw [e1182]; exact hc1160
  have hc1194 : (gN_ σ289 20) < gN_ σ1181 20 := by rw [e1182]; exact hc1161
  have hc1195 : (gN_ σ318 21) < gN_ σ1181 21 := by rw [e1182]; exact hc1162
  have hc1196 : (gN_ σ349 22) < gN_ σ1181 22 := by rw [e1182]; exact hc1163
  have hc1197 : (gN_ σ382 23) < gN_ σ1181 23 := by rw [e1182]; exact hc1164
  have hc1198 : (gN_ σ417 24) < gN_ σ1181 24 := by rw [e1182]; exact hc1165
  have hc1199 : (gN_ σ454 25) < gN_ σ1181 25 := by rw [e1182]; exact hc1166
  have hc1200 : (gN_ σ493 26) < gN_ σ1181 26 := by rw [e1182]; exact hc1167
  have hc1201 : (gN_ σ534 27) < gN_ σ1181 27 := by rw [e1182]; exact hc1168
  have hc1202 : (gN_ σ577 28) < gN_ σ1181 28 := by rw [e1182]; exact hc1169
  have hc1203 : (gN_ σ622 29) < gN_ σ1181 29 := by rw [e1182]; exact hc1170
  have hc1204 : (gN_ σ669 30) < gN_ σ1181 30 := by rw [e1182]; exact hc1171
  have hc1205 : (gN_ σ718 31) < gN_ σ1181 31 := by rw [e1182]; exact hc1172
  have hc1206 : (gN_ σ769 32) < gN_ σ1181 32 := by rw [e1182]; exact hc1173
  have hc1207 : (gN_ σ821 32) < gN_ σ1181 32 := by rw [e1182]; exact hc1174
  have hc1208 : (gN_ σ876 32) < gN_ σ1181 32 := by rw [e1182]; exact hc1175
  have hc1209 : (gN_ σ933 35) < gN_ σ1181 35 := by rw [e1182]; exact hc1176
  have hc1210 : (gN_ σ992 36) < gN_ σ1181 36 := by rw [e1182]; exact hc1177
  have hc1211 : (gN_ σ1053 37) < gN_ σ1181 37 := by rw [e1182]; exact hc1178
  have hc1212 : (gN_ σ1116 38) < gN_ σ1181 38 := by rw [e1182]; exact hc1179
  refine lv_aload_n hx hb dX1_init_262 rfl (lv_at hl 0 rfl) ?_
  refine lv_bipush (v := 64) hx hb dX1_init_263 (by decide) ?_
  have hp1213 : pr σ1181 1 0 := (pr_dy hc1183 rfl rfl)
  obtain ⟨σ1214, e1215, hs⟩ := ww_let hs
  obtain ⟨hs, hck⟩ := ww_ck1 hs
  have hrm1 := hcs.room (σ1 := σ1214) (a := 1) (b := 64) (by rw [e1215]; rfl) (by rw [e1215]; rfl) hck
  refine ww_newa (atype := .boolean) hx hb (hts _ q224) hW 39 2 64 (Or.inl rfl) sole_39 (Or.inr hgm) rfl rfl rfl (by decide) rfl (Nat.le_of_ble_eq_true rfl) hrm1.1 hrm1.2 dX1_init_265 (fun H L hx1 hW => ?_)
  rw [← e1215] at hx1 hW
  have hcs := hcs.more (σ1 := σ1214) (a := 1) (b := 64) (by rw [e1215]; rfl) (by rw [e1215]; rfl)
  have hrm := hrm1
  have hc1216 : 0 < gN_ σ1214 1 := Nat.lt_of_lt_of_le hc1183 (hx1.2.1 1)
  have hc1217 : (gN_ σ 10) < gN_ σ1214 10 := Nat.lt_of_lt_of_le hc1184 (hx1.2.1 10)
  have hc1218 : (gN_ σ17 50) < gN_ σ1214 50 := Nat.lt_of_lt_of_le hc1185 (hx1.2.1 50)
  have hc1219 : (gN_ σ37 50) < gN_ σ1214 50 := Nat.lt_of_lt_of_le hc1186 (hx1.2.1 50)
  have hc1220 : (gN_ σ60 50) < gN_ σ1214 50 := Nat.lt_of_lt_of_le hc1187 (hx1.2.1 50)
  have hc1221 : (gN_ σ86 60) < gN_ σ1214 60 := Nat.lt_of_lt_of_le hc1188 (hx1.2.1 60)
  have hc1222 : (gN_ σ115 65) < gN_ σ1214 65 := Nat.lt_of_lt_of_le hc1189 (hx1.2.1 65)
  have hc1223 : (gN_ σ147 70) < gN_ σ1214 70 := Nat.lt_of_lt_of_le hc1190 (hx1.2.1 70)
  have hc1224 : (gN_ σ178 72) < gN_ σ1214 72 := Nat.lt_of_lt_of_le hc1191 (hx1.2.1 72)
  have hc1225 : (gN_ σ212 74) < gN_ σ1214 74 := Nat.lt_of_lt_of_le hc1192 (hx1.2.1 74)
  have hc1226 : (gN_ σ249 76) < gN_ σ1214 76 := Nat.lt_of_lt_of_le hc1193 (hx1.2.1 76)
  have hc1227 : (gN_ σ289 20) < gN_ σ1214 20 := Nat.lt_of_lt_of_le hc1194 (hx1.2.1 20)
  have hc1228 : (gN_ σ318 21) < gN_ σ1214 21 := Nat.lt_of_lt_of_le hc1195 (hx1.2.1 21)
  have hc1229 : (gN_ σ349 22) < gN_ σ1214 22 := Nat.lt_of_lt_of_le hc1196 (hx1.2.1 22)
  have hc1230 : (gN_ σ382 23) < gN_ σ1214 23 := Nat.lt_of_lt_of_le hc1197 (hx1.2.1 23)
  have hc1231 : (gN_ σ417 24) < gN_ σ1214 24 := Nat.lt_of_lt_of_le hc1198 (hx1.2.1 24)
  have hc1232 : (gN_ σ454 25) < gN_ σ1214 25 := Nat.lt_of_lt_of_le hc1199 (hx1.2.1 25)
  have hc1233 : (gN_ σ493 26) < gN_ σ1214 26 := Nat.lt_of_lt_of_le hc1200 (hx1.2.1 26)
  have hc1234 : (gN_ σ534 27) < gN_ σ1214 27 := Nat.lt_of_lt_of_le hc1201 (hx1.2.1 27)
  have hc1235 : (gN_ σ577 28) < gN_ σ1214 28 := Nat.lt_of_lt_of_le hc1202 (hx1.2.1 28)
  have hc1236 : (gN_ σ622 29) < gN_ σ1214 29 := Nat.lt_of_lt_of_le hc1203 (hx1.2.1 29)
  have hc1237 : (gN_ σ669 30) < gN_ σ1214 30 := Nat.lt_of_lt_of_le hc1204 (hx1.2.1 30)
  have hc1238 : (gN_ σ718 31) < gN_ σ1214 31 := Nat.lt_of_lt_of_le hc1205 (hx1.2.1 31)
  have hc1239 : (gN_ σ769 32) < gN_ σ1214 32 := Nat.lt_of_lt_of_le hc1206 (hx1.2.1 32)
  have hc1240 : (gN_ σ821 32) < gN_ σ1214 32 := Nat.lt_of_lt_of_le hc1207 (hx1.2.1 32)
  have hc1241 : (gN_ σ876 32) < gN_ σ1214 32 := Nat.lt_of_lt_of_le hc1208 (hx1.2.1 32)
  have hc1242 : (gN_ σ933 35) < gN_ σ1214 35 := Nat.lt_of_lt_of_le hc1209 (hx1.2.1 35)
  have hc1243 : (gN_ σ992 36) < gN_ σ1214 36 := Nat.lt_of_lt_of_le hc1210 (hx1.2.1 36)
  have hc1244 : (gN_ σ1053 37) < gN_ σ1214 37 := Nat.lt_of_lt_of_le hc1211 (hx1.2.1 37)
  have hc1245 : (gN_ σ1116 38) < gN_ σ1214 38 := Nat.lt_of_lt_of_le hc1212 (hx1.2.1 38)
  have hc1246 : gN_ σ1181 39 < gN_ σ1214 39 := by rw [e1215]; exact nA_lt rfl
  rw [show ow_ 39 = 39 from rfl]
  have hl : lv_has ls 2 [(0, .ref (L 1 0))] := by rw [hx1.at hp1213 (by decide)]; exact hl
  refine ww_stk (st1 := [.ref (L 39 (gN_ σ1181 39)), .ref (L 1 0)]) (by rw [hx1.at hp1213 (by decide)]) ?_
  have hx0 := hx0.trans hx1
  obtain ⟨hc1247, hs⟩ := ww_chk hs
  have hpq : pr σ1214 39 (gN_ σ1181 39) := (pr_dy hc1246 rfl rfl)
  rw [hc1247] at hpq
  obtain ⟨σ1248, e1249, hs⟩ := ww_let hs
  refine ww_markF (d := (1, 39, 0)) hx hb hts hown (hnm.trans rfl) hW 1 0 29 0 (pr_dy hc1216 rfl rfl) (tgd_1 hpq) (obv_0 rfl) rfl (by decide) (Nat.le_of_ble_eq_true rfl) in_X1 tyX1_ok nmX1 rfl (Nat.le_of_ble_eq_true rfl) (hts _ q391) (fun _ h => h) rfl rfl rfl (fun _ => rfl) (fun _ => rfl) (by rw [hc1247]; rfl) dX1_init_267 (fun H locs hW => ?_)
  have hW : wv g L σ1248 s H locs := by rw [e1249]; exact hW
  obtain ⟨hx0, hcs⟩ := lx_s (σ1 := σ1248) hx0 hcs (by rw [e1249]; exact (kp_M (by decide)))
  have hc1250 : 0 < gN_ σ1248 1 := by rw [e1249]; exact hc1216
  have hc1251 : (gN_ σ 10) < gN_ σ1248 10 := by rw [e1249]; exact hc1217
  have hc1252 : (gN_ σ17 50) < gN_ σ1248 50 := by rw [e1249]; exact hc1218
  have hc1253 : (gN_ σ37 50) < gN_ σ1248 50 := by rw [e1249]; exact hc1219
  have hc1254 : (gN_ σ60 50) < gN_ σ1248 50 := by rw [e1249]; exact hc1220
  have hc1255 : (gN_ σ86 60) < gN_ σ1248 60 := by rw [e1249]; exact hc1221
  have hc1256 : (gN_ σ115 65) < gN_ σ1248 65 := by rw [e1249]; exact hc1222
  have hc1257 : (gN_ σ147 70) < gN_ σ1248 70 := by rw [e1249]; exact hc1223
  have hc1258 : (gN_ σ178 72) < gN_ σ1248 72 := by rw [e1249]; exact hc1224
  have hc1259 : (gN_ σ212 74) < gN_ σ1248 74 := by rw [e1249]; exact hc1225
  have hc1260 : (gN_ σ249 76) < gN_ σ1248 76 := by rw [e1249]; exact hc1226
  have hc1261 : (gN_ σ289 20) < gN_ σ1248 20 := by rw [e1249]; exact hc1227
  have hc1262 : (gN_ σ318 21) < gN_ σ1248 21 := by rw [e1249]; exact hc1228
  have hc1263 : (gN_ σ349 22) < gN_ σ1248 22 := by rw [e1249]; exact hc1229
  have hc1264 : (gN_ σ382 23) < gN_ σ1248 23 := by rw [e1249]; exact hc1230
  have hc1265 : (gN_ σ417 24) < gN_ σ1248 24 := by rw [e1249]; exact hc1231
  have hc1266 : (gN_ σ454 25) < gN_ σ1248 25 := by rw [e1249]; exact hc1232
  have hc1267 : (gN_ σ493 26) < gN_ σ1248 26 := by rw [e1249]; exact hc1233
  have hc1268 : (gN_ σ534 27) < gN_ σ1248 27 := by rw [e1249]; exact hc1234
  have hc1269 : (gN_ σ577 28) < gN_ σ1248 28 := by rw [e1249]; exact hc1235
  have hc1270 : (gN_ σ622 29) < gN_ σ1248 29 := by rw [e1249]; exact hc1236
  have hc1271 : (gN_ σ669 30) < gN_ σ1248 30 := by rw [e1249]; exact hc1237
  have hc1272 : (gN_ σ718 31) < gN_ σ1248 31 := by rw [e1249]; exact hc1238
  have hc1273 : (gN_ σ769 32) < gN_ σ1248 32 := by rw [e1249]; exact hc1239
  have hc1274 : (gN_ σ821 32) < gN_ σ1248 32 := by rw [e1249]; exact hc1240
  have hc1275 : (gN_ σ876 32) < gN_ σ1248 32 := by rw [e1249]; exact hc1241
  have hc1276 : (gN_ σ933 35) < gN_ σ1248 35 := by rw [e1249]; exact hc1242
  have hc1277 : (gN_ σ992 36) < gN_ σ1248 36 := by rw [e1249]; exact hc1243
  have hc1278 : (gN_ σ1053 37) < gN_ σ1248 37 := by rw [e1249]; exact hc1244
  have hc1279 : (gN_ σ1116 38) < gN_ σ1248 38 := by rw [e1249]; exact hc1245
  have hc1280 : (gN_ σ1181 39) < gN_ σ1248 39 := by rw [e1249]; exact hc1246
  refine lv_aload_n hx hb dX1_init_270 rfl (lv_at hl 0 rfl) ?_
  refine lv_bipush (v := 10) hx hb dX1_init_271 (by decide) ?_
  refine lv_sipush (v := 1000) hx hb dX1_init_273 (by decide) ?_
  have hp1281 : pr σ1248 1 0 := (pr_dy hc1250 rfl rfl)
  obtain ⟨σ1282, e1283, hs⟩ := ww_let hs
  obtain ⟨hs, hck⟩ := ww_ck1 hs
  have hrm1 := hcs.room (σ1 := σ1282) (a := 1 + 10) (b := 10 + 10 * 1000) (by rw [e1283]; rfl) (by rw [e1283]; rfl) hck
  refine ww_mula hx hb .boolean hown (hts _ q265) (ao_use hW.1.2.2.2.2.2.2.2.2.2.2.2.2.2.1) (hts _ q224) hW 40 41 10 1000 5 2 (Or.inr ⟨rfl, rfl⟩) rfl own2_40 (Or.inr hgm) (hW.1.1.2 2 _ rfl).2 (hW.1.1.2 5 _ rfl).2 rfl (by decide) (by decide) rfl rfl (Nat.le_of_ble_eq_true rfl) (Nat.le_of_ble_eq_true rfl) (Nat.le_of_ble_eq_true rfl) rfl rfl hrm1.1 hrm1.2 dX1_init_276 (fun H L hx1 hW => ?_)
  rw [← e1283] at hx1 hW
  have hcs := hcs.more (σ1 := σ1282) (a := 1 + 10) (b := 10 + 10 * 1000) (by rw [e1283]; rfl) (by rw [e1283]; rfl)
  have hrm := hrm1
  have hc1284 : 0 < gN_ σ1282 1 := Nat.lt_of_lt_of_le hc1250 (hx1.2.1 1)
  have hc1285 : (gN_ σ 10) < gN_ σ1282 10 := Nat.lt_of_lt_of_le hc1251 (hx1.2.1 10)
  have hc1286 : (gN_ σ17 50) < gN_ σ1282 50 := Nat.lt_of_lt_of_le hc1252 (hx1.2.1 50)
  have hc1287 : (gN_ σ37 50) < gN_ σ1282 50 := Nat.lt_of_lt_of_le hc1253 (hx1.2.1 50)
  have hc1288 : (gN_ σ60 50) < gN_ σ1282 50 := Nat.lt_of_lt_of_le hc1254 (hx1.2.1 50)
  have hc1289 : (gN_ σ86 60) < gN_ σ1282 60 := Nat.lt_of_lt_of_le hc1255 (hx1.2.1 60)
  have hc1290 : (gN_ σ115 65) < gN_ σ1282 65 := Nat.lt_of_lt_of_le hc1256 (hx1.2.1 65)
  have hc1291 : (gN_ σ147 70) < gN_ σ1282 70 := Nat.lt_of_lt_of_le hc1257 (hx1.2.1 70)
  have hc1292 : (gN_ σ178 72) < gN_ σ1282 72 := Nat.lt_of_lt_of_le hc1258 (hx1.2.1 72)
  have hc1293 : (gN_ σ212 74) < gN_ σ1282 74 := Nat.lt_of_lt_of_le hc1259 (hx1.2.1 74)
  have hc1294 : (gN_ σ249 76) < gN_ σ1282 76 := Nat.lt_of_lt_of_le hc1260 (hx1.2.1 76)
  have hc1295 : (gN_ σ289 20) < gN_ σ1282 20 := Nat.lt_of_lt_of_le hc1261 (hx1.2.1 20)
  have hc1296 : (gN_ σ318 21) < gN_ σ1282 21 := Nat.lt_of_lt_of_le hc1262 (hx1.2.1 21)
  have hc1297 : (gN_ σ349 22) < gN_ σ1282 22 := Nat.lt_of_lt_of_le hc1263 (hx1.2.1 22)
  have hc1298 : (gN_ σ382 23) < gN_ σ1282 23 := Nat.lt_of_lt_of_le hc1264 (hx1.2.1 23)
  have hc1299 : (gN_ σ417 24) < gN_ σ1282 24 := Nat.lt_of_lt_of_le hc1265 (hx1.2.1 24)
  have hc1300 : (gN_ σ454 25) < gN_ σ1282 25 := Nat.lt_of_lt_of_le hc1266 (hx1.2.1 25)
  have hc1301 : (gN_ σ493 26) < gN_ σ1282 26 := Nat.lt_of_lt_of_le hc1267 (hx1.2.1 26)
  have hc1302 : (gN_ σ534 27) < gN_ σ1282 27 := Nat.lt_of_lt_of_le hc1268 (hx1.2.1 27)
  have hc1303 : (gN_ σ577 28) < gN_ σ1282 28 := Nat.lt_of_lt_of_le hc1269 (hx1.2.1 28)
  have hc1304 : (gN_ σ622 29) < gN_ σ1282 29 := Nat.lt_of_lt_of_le hc1270 (hx1.2.1 29)
  have hc1305 : (gN_ σ669 30) < gN_ σ1282 30 := Nat.lt_of_lt_of_le hc1271 (hx1.2.1 30)
  have hc1306 : (gN_ σ718 31) < gN_ σ1282 31 := Nat.lt_of_lt_of_le hc1272 (hx1.2.1 31)
  have hc1307 : (gN_ σ769 32) < gN_ σ1282 32 := Nat.lt_of_lt_of_le hc1273 (hx1.2.1 32)
  have hc1308 : (gN_ σ821 32) < gN_ σ1282 32 := Nat.lt_of_lt_of_le hc1274 (hx1.2.1 32)
  have hc1309 : (gN_ σ876 32) < gN_ σ1282 32 := Nat.lt_of_lt_of_le hc1275 (hx1.2.1 32)
  have hc1310 : (gN_ σ933 35) < gN_ σ1282 35 := Nat.lt_of_lt_of_le hc1276 (hx1.2.1 35)
  have hc1311 : (gN_ σ992 36) < gN_ σ1282 36 := Nat.lt_of_lt_of_le hc1277 (hx1.2.1 36)
  have hc1312 : (gN_ σ1053 37) < gN_ σ1282 37 := Nat.lt_of_lt_of_le hc1278 (hx1.2.1 37)
  have hc1313 : (gN_ σ1116 38) < gN_ σ1282 38 := Nat.lt_of_lt_of_le hc1279 (hx1.2.1 38)
  have hc1314 : (gN_ σ1181 39) < gN_ σ1282 39 := Nat.lt_of_lt_of_le hc1280 (hx1.2.1 39)
  have hc1315 : gN_ σ1248 40 < gN_ σ1282 40 := by rw [e1283]; exact nM_lt
  have hl : lv_has ls 2 [(0, .ref (L 1 0))] := by rw [hx1.at hp1281 (by decide)]; exact hl
  refine ww_stk (st1 := [.ref (L 40 (gN_ σ1248 40)), .ref (L 1 0)]) (by rw [hx1.at hp1281 (by decide)]) ?_
  have hx0 := hx0.trans hx1
  obtain ⟨hc1316, hs⟩ := ww_chk hs
  have hpq : pr σ1282 40 (gN_ σ1248 40) := (pr_dy hc1315 rfl rfl)
  rw [hc1316] at hpq
  obtain ⟨σ1317, e1318, hs⟩ := ww_let hs
  refine ww_markF (d := (1, 40, 0)) hx hb hts hown (hnm.trans rfl) hW 1 0 30 0 (pr_dy hc1284 rfl rfl) (tgd_1 hpq) (obv_0 rfl) rfl (by decide) (Nat.le_of_ble_eq_true rfl) in_X1 tyX1_ok nmX1 rfl (Nat.le_of_ble_eq_true rfl) (hts _ q392) (fun _ h => h) rfl rfl rfl (fun _ => rfl) (fun _ => rfl) (by rw [hc1316]; rfl) dX1_init_280 (fun H locs hW => ?_)
  have hW : wv g L σ1317 s H locs := by rw [e1318]; exact hW
  obtain ⟨hx0, hcs⟩ := lx_s (σ1 := σ1317) hx0 hcs (by rw [e1318]; exact (kp_M (by decide)))
  have hc1319 : 0 < gN_ σ1317 1 := by rw [e1318]; exact hc1284
  have hc1320 : (gN_ σ 10) < gN_ σ1317 10 := by rw [e1318]; exact hc1285
  have hc1321 : (gN_ σ17 50) < gN_ σ1317 50 := by rw [e1318]; exact hc1286
  have hc1322 : (gN_ σ37 50) < gN_ σ1317 50 := by rw [e1318]; exact hc1287
  have hc1323 : (gN_ σ60 50) < gN_ σ1317 50 := by rw [e1318]; exact hc1288
  have hc1324 : (gN_ σ86 60) < gN_ σ1317 60 := by rw [e1318]; exact hc1289
  have hc1325 : (gN_ σ115 65) < gN_ σ1317 65 := by rw [e1318]; exact hc1290
  have hc1326 : (gN_ σ147 70) < gN_ σ1317 70 := by rw [e1318]; exact hc1291
  have hc1327 : (gN_ σ178 72) < gN_ σ1317 72 := by rw [e1318]; exact hc1292
  have hc1328 : (gN_ σ212 74) < gN_ σ1317 74 := by rw [e1318]; exact hc1293
  have hc1329 : (gN_ σ249 76) < gN_ σ1317 76 := by rw [e1318]; exact hc1294
  have hc1330 : (gN_ σ289 20) < gN_ σ1317 20 := by rw [e1318]; exact hc1295
  have hc1331 : (gN_ σ318 21) < gN_ σ1317 21 := by rw [e1318]; exact hc1296
  have hc1332 : (gN_ σ349 22) < gN_ σ1317 22 := by rw [e1318]; exact hc1297
  have hc1333 : (gN_ σ382 23) < gN_ σ1317 23 := by rw [e1318]; exact hc1298
  have hc1334 : (gN_ σ417 24) < gN_ σ1317 24 := by rw [e1318]; exact hc1299
  have hc1335 : (gN_ σ454 25) < gN_ σ1317 25 := by rw [e1318]; exact hc1300
  have hc1336 : (gN_ σ493 26) < gN_ σ1317 26 := by rw [e1318]; exact hc1301
  have hc1337 : (gN_ σ534 27) < gN_ σ1317 27 := by rw [e1318]; exact hc1302
  have hc1338 : (gN_ σ577 28) < gN_ σ1317 28 := by rw [e1318]; exact hc1303
  have hc1339 : (gN_ σ622 29) < gN_ σ1317 29 := by rw [e1318]; exact hc1304
  have hc1340 : (gN_ σ669 30) < gN_ σ1317 30 := by rw [e1318]; exact hc1305
  have hc1341 : (gN_ σ718 31) < gN_ σ1317 31 := by rw [e1318]; exact hc1306
  have hc1342 : (gN_ σ769 32) < gN_ σ1317 32 := by rw [e1318]; exact hc1307
  have hc1343 : (gN_ σ821 32) < gN_ σ1317 32 := by rw [e1318]; exact hc1308
  have hc1344 : (gN_ σ876 32) < gN_ σ1317 32 := by rw [e1318]; exact hc1309
  have hc1345 : (gN_ σ933 35) < gN_ σ1317 35 := by rw [e1318]; exact hc1310
  have hc1346 : (gN_ σ992 36) < gN_ σ1317 36 := by rw [e1318]; exact hc1311
  have hc1347 : (gN_ σ1053 37) < gN_ σ1317 37 := by rw [e1318]; exact hc1312
  have hc1348 : (gN_ σ1116 38) < gN_ σ1317 38 := by rw [e1318]; exact hc1313
  have hc1349 : (gN_ σ1181 39) < gN_ σ1317 39 := by rw [e1318]; exact hc1314
  have hc1350 : (gN_ σ1248 40) < gN_ σ1317 40 := by rw [e1318]; exact hc1315
  refine lv_aload_n hx hb dX1_init_283 rfl (lv_at hl 0 rfl) ?_
  have hp1351 : pr σ1317 1 0 := (pr_dy hc1319 rfl rfl)
  obtain ⟨σ1352, e1353, hs⟩ := ww_let hs
  obtain ⟨hs, hck⟩ := ww_ck1 hs
  have hrm1 := hcs.room (σ1 := σ1352) (a := 1) (b := 12) (by rw [e1353]; rfl) (by rw [e1353]; rfl) hck
  refine ww_newo (ci := 10) hx hb hts in_X5 tyX5 tyX5_ok hown (hts _ q267) (hts _ q268) (hts _ q118) hW 87 0 (obv_0 rfl) rfl df_87 (Nat.le_of_ble_eq_true rfl) rfl sole_87 (Or.inr hgm) (Or.inl hgm) hrm1.1 hrm1.2 dX1_init_284 (fun H L hx1 hW => ?_)
  rw [← e1353] at hx1 hW
  have hcs := hcs.more (σ1 := σ1352) (a := 1) (b := 12) (by rw [e1353]; rfl) (by rw [e1353]; rfl)
  have hrm := hrm1
  have hc1354 : 0 < gN_ σ1352 1 := Nat.lt_of_lt_of_le hc1319 (hx1.2.1 1)
  have hc1355 : (gN_ σ 10) < gN_ σ1352 10 := Nat.lt_of_lt_of_le hc1320 (hx1.2.1 10)
  have hc1356 : (gN_ σ17 50) < gN_ σ1352 50 := Nat.lt_of_lt_of_le hc1321 (hx1.2.1 50)
  have hc1357 : (gN_ σ37 50) < gN_ σ1352 50 := Nat.lt_of_lt_of_le hc1322 (hx1.2.1 50)
  have hc1358 : (gN_ σ60 50) < gN_ σ1352 50 := Nat.lt_of_lt_of_le hc1323 (hx1.2.1 50)
  have hc1359 : (gN_ σ86 60) < gN_ σ1352 60 := Nat.lt_of_lt_of_le hc1324 (hx1.2.1 60)
  have hc1360 : (gN_ σ115 65) < gN_ σ1352 65 := Nat.lt_of_lt_of_le hc1325 (hx1.2.1 65)
  have hc1361 : (gN_ σ147 70) < gN_ σ1352 70 := Nat.lt_of_lt_of_le hc1326 (hx1.2.1 70)
  have hc1362 : (gN_ σ178 72) < gN_ σ1352 72 := Nat.lt_of_lt_of_le hc1327 (hx1.2.1 72)
  have hc1363 : (gN_ σ212 74) < gN_ σ1352 74 := Nat.lt_of_lt_of_le hc1328 (hx1.2.1 74)
  have hc1364 : (gN_ σ249 76) < gN_ σ1352 76 := Nat.lt_of_lt_of_le hc1329 (hx1.2.1 76)
  have hc1365 : (gN_ σ289 20) < gN_ σ1352 20 := Nat.lt_of_lt_of_le hc1330 (hx1.2.1 20)
  have hc1366 : (gN_ σ318 21) < gN_ σ1352 21 := Nat.lt_of_lt_of_le hc1331 (hx1.2.1 21)
  have hc1367 : (gN_ σ349 22) < gN_ σ1352 22 := Nat.lt_of_lt_of_le hc1332 (hx1.2.1 22)
  have hc1368 : (gN_ σ382 23) < gN_ σ1352 23 := Nat.lt_of_lt_of_le hc1333 (hx1.2.1 23)
  have hc1369 : (gN_ σ417 24) < gN_ σ1352 24 := Nat.lt_of_lt_of_le hc1334 (hx1.2.1 24)
  have hc1370 : (gN_ σ454 25) < gN_ σ1352 25 := Nat.lt_of_lt_of_le hc1335 (hx1.2.1 25)
  have hc1371 : (gN_ σ493 26) < gN_ σ1352 26 := Nat.lt_of_lt_of_le hc1336 (hx1.2.1 26)
  have hc1372 : (gN_ σ534 27) < gN_ σ1352 27 := Nat.lt_of_lt_of_le hc1337 (hx1.2.1 27)
  have hc1373 : (gN_ σ577 28) < gN_ σ1352 28 := Nat.lt_of_lt_of_le hc1338 (hx1.2.1 28)
  have hc1374 : (gN_ σ622 29) < gN_ σ1352 29 := Nat.lt_of_lt_of_le hc1339 (hx1.2.1 29)
  have hc1375 : (gN_ σ669 30) < gN_ σ1352 30 := Nat.lt_of_lt_of_le hc1340 (hx1.2.1 30)
  have hc1376 : (gN_ σ718 31) < gN_ σ1352 31 := Nat.lt_of_lt_of_le hc1341 (hx1.2.1 31)
  have hc1377 : (gN_ σ769 32) < gN_ σ1352 32 := Nat.lt_of_lt_of_le hc1342 (hx1.2.1 32)
  have hc1378 : (gN_ σ821 32) < gN_ σ1352 32 := Nat.lt_of_lt_of_le hc1343 (hx1.2.1 32)
  have hc1379 : (gN_ σ876 32) < gN_ σ1352 32 := Nat.lt_of_lt_of_le hc1344 (hx1.2.1 32)
  have hc1380 : (gN_ σ933 35) < gN_ σ1352 35 := Nat.lt_of_lt_of_le hc1345 (hx1.2.1 35)
  have hc1381 : (gN_ σ992 36) < gN_ σ1352 36 := Nat.lt_of_lt_of_le hc1346 (hx1.2.1 36)
  have hc1382 : (gN_ σ1053 37) < gN_ σ1352 37 := Nat.lt_of_lt_of_le hc1347 (hx1.2.1 37)
  have hc1383 : (gN_ σ1116 38) < gN_ σ1352 38 := Nat.lt_of_lt_of_le hc1348 (hx1.2.1 38)
  have hc1384 : (gN_ σ1181 39) < gN_ σ1352 39 := Nat.lt_of_lt_of_le hc1349 (hx1.2.1 39)
  have hc1385 : (gN_ σ1248 40) < gN_ σ1352 40 := Nat.lt_of_lt_of_le hc1350 (hx1.2.1 40)
  have hc1386 : gN_ σ1317 87 < gN_ σ1352 87 := by rw [e1353]; exact nO_lt rfl
  rw [show ow_ 87 = 87 from rfl]
  have hl : lv_has ls 2 [(0, .ref (L 1 0))] := by rw [hx1.at hp1351 (by decide)]; exact hl
  refine ww_stk (st1 := [.ref (L 87 (gN_ σ1317 87)), .ref (L 1 0)]) (by rw [hx1.at hp1351 (by decide)]) ?_
  have hx0 := hx0.trans hx1
  refine lv_dup hx hb dX1_init_287 rfl ?_
  refine lv_aload_n hx hb dX1_init_288 rfl (lv_at hl 0 rfl) ?_
  refine lv_iconst (v := 0) hx hb dX1_init_289 (by decide) ?_
  obtain ⟨σ1389, hc1387, hs⟩ := ww_bnd hs
  have hp1390 : pr σ1352 1 0 := (pr_dy hc1354 rfl rfl)
  have hp1391 : pr σ1352 87 (gN_ σ1317 87) := (pr_dy hc1386 rfl rfl)
  obtain ⟨hc1392, hs⟩ := ww_chk hs
  obtain ⟨hs, hck⟩ := ww_ck1 hs
  have hrm1 := hcs.roomC hc1392 hck
  refine wa_cv (va_runI (As := [.ref (L 1 0), .int (0 : Int32)]) (rest := [.ref (L 87 (gN_ σ1317 87)), .ref (L 1 0)]) ⟨hx, hb, hml, hown, hts⟩ (c_X5_init g hgm l L σ1352 (gN_ σ1317 87) (0 : Int32) _ hc1387) (cwI 2 hts (lw_meth q271) rfl rfl rfl (hts _ q118) (hts _ q269) (hts _ q270) rfl hd_X5_init.2 ⟨(Nat.le_of_ble_eq_true rfl), (Nat.le_of_ble_eq_true rfl)⟩) (ww_preS hW) rfl rfl hl.1 rfl (lv_room (Nat.le_of_ble_eq_true rfl)) dX1_init_290 hrm1) hW (fun H locs L hx1 hW => ?_)
  have hc1393 : 0 < gN_ σ1389 1 := Nat.lt_of_lt_of_le hc1354 (hx1.2.1 1)
  have hc1394 : (gN_ σ 10) < gN_ σ1389 10 := Nat.lt_of_lt_of_le hc1355 (hx1.2.1 10)
  have hc1395 : (gN_ σ17 50) < gN_ σ1389 50 := Nat.lt_of_lt_of_le hc1356 (hx1.2.1 50)
  have hc1396 : (gN_ σ37 50) < gN_ σ1389 50 := Nat.lt_of_lt_of_le hc1357 (hx1.2.1 50)
  have hc1397 : (gN_ σ60 50) < gN_ σ1389 50 := Nat.lt_of_lt_of_le hc1358 (hx1.2.1 50)
  have hc1398 : (gN_ σ86 60) < gN_ σ1389 60 := Nat.lt_of_lt_of_le hc1359 (hx1.2.1 60)
  have hc1399 : (gN_ σ115 65) < gN_ σ1389 65 := Nat.lt_of_lt_of_le hc1360 (hx1.2.1 65)
  have hc1400 : (gN_ σ147 70) < gN_ σ1389 70 := Nat.lt_of_lt_of_le hc1361 (hx1.2.1 70)
  have hc1401 : (gN_ σ178 72) < gN_ σ1389 72 := Nat.lt_of_lt_of_le hc1362 (hx1.2.1 72)
  have hc1402 : (gN_ σ212 74) < gN_ σ1389 74 := Nat.lt_of_lt_of_le hc1363 (hx1.2.1 74)
  have hc1403 : (gN_ σ249 76) < gN_ σ1389 76 := Nat.lt_of_lt_of_le hc1364 (hx1.2.1 76)
  have hc1404 : (gN_ σ289 20) < gN_ σ1389 20 := Nat.lt_of_lt_of_le hc1365 (hx1.2.1 20)
  have hc1405 : (gN_ σ318 21) < gN_ σ1389 21 := Nat.lt_of_lt_of_le hc1366 (hx1.2.1 21)
  have hc1406 : (gN_ σ349 22) < gN_ σ1389 22 := Nat.lt_of_lt_of_le hc1367 (hx1.2.1 22)
  have hc1407 : (gN_ σ382 23) < gN_ σ1389 23 := Nat.lt_of_lt_of_le hc1368 (hx1.2.1 23)
  have hc1408 : (gN_ σ417 24) < gN_ σ1389 24 := Nat.lt_of_lt_of_le hc1369 (hx1.2.1 24)
  have hc1409 : (gN_ σ454 25) < gN_ σ1389 25 := Nat.lt_of_lt_of_le hc1370 (hx1.2.1 25)
  have hc1410 : (gN_ σ493 26) < gN_ σ1389 26 := Nat.lt_of_lt_of_le hc1371 (hx1.2.1 26)
  have hc1411 : (gN_ σ534 27) < gN_ σ1389 27 := Nat.lt_of_lt_of_le hc1372 (hx1.2.1 27)
  have hc1412 : (gN_ σ577 28) < gN_ σ1389 28 := Nat.lt_of_lt_of_le hc1373 (hx1.2.1 28)
  have hc1413 : (gN_ σ622 29) < gN_ σ1389 29 := Nat.lt_of_lt_of_le hc1374 (hx1.2.1 29)
  have hc1414 : (gN_ σ669 30) < gN_ σ1389 30 := Nat.lt_of_lt_of_le hc1375 (hx1.2.1 30)
  have hc1415 : (gN_ σ718 31) < gN_ σ1389 31 := Nat.lt_of_lt_of_le hc1376 (hx1.2.1 31)
  have hc1416 : (gN_ σ769 32) < gN_ σ1389 32 := Nat.lt_of_lt_of_le hc1377 (hx1.2.1 32)
  have hc1417 : (gN_ σ821 32) < gN_ σ1389 32 := Nat.lt_of_lt_of_le hc1378 (hx1.2.1 32)
  have hc1418 : (gN_ σ876 32) < gN_ σ1389 32 := Nat.lt_of_lt_of_le hc1379 (hx1.2.1 32)
  have hc1419 : (gN_ σ933 35) < gN_ σ1389 35 := Nat.lt_of_lt_of_le hc1380 (hx1.2.1 35)
  have hc1420 : (gN_ σ992 36) < gN_ σ1389 36 := Nat.lt_of_lt_of_le hc1381 (hx1.2.1 36)
  have hc1421 : (gN_ σ1053 37) < gN_ σ1389 37 := Nat.lt_of_lt_of_le hc1382 (hx1.2.1 37)
  have hc1422 : (gN_ σ1116 38) < gN_ σ1389 38 := Nat.lt_of_lt_of_le hc1383 (hx1.2.1 38)
  have hc1423 : (gN_ σ1181 39) < gN_ σ1389 39 := Nat.lt_of_lt_of_le hc1384 (hx1.2.1 39)
  have hc1424 : (gN_ σ1248 40) < gN_ σ1389 40 := Nat.lt_of_lt_of_le hc1385 (hx1.2.1 40)
  have hc1425 : (gN_ σ1317 87) < gN_ σ1389 87 := Nat.lt_of_lt_of_le hc1386 (hx1.2.1 87)
  have hcs := hcs.call hc1392
  have hrm := hrm1
  have hl : lv_has ls 2 [(0, .ref (L 1 0))] := by rw [hx1.at hp1390 (by decide)]; exact hl
  refine ww_stk (st1 := [.ref (L 87 (gN_ σ1317 87)), .ref (L 1 0)]) (by rw [hx1.at hp1390 (by decide), hx1.at hp1391 (by decide)]) ?_
  have hx0 := hx0.trans hx1
  obtain ⟨σ1426, e1427, hs⟩ := ww_let hs
  refine ww_mark (d := (3, 87, 0)) hx hb hts hown hW 1 0 31 (gN_ σ1317 87) (pr_dy hc1393 rfl rfl) (tgd_3 (pr_dy hc1425 rfl rfl)) (obv_0 rfl) rfl (by decide) (Nat.le_of_ble_eq_true rfl) in_X1 tyX1_ok nmX1 rfl (Nat.le_of_ble_eq_true rfl) (Or.inl (hts _ q393)) (fun _ h => h) rfl rfl (fun _ => rfl) (fun _ => rfl) (congrArg Value.ref fp_M3.symm) dX1_init_293 (fun H locs hW => ?_)
  have hW : wv g L σ1426 s H locs := by rw [e1427]; exact hW
  obtain ⟨hx0, hcs⟩ := lx_s (σ1 := σ1426) hx0 hcs (by rw [e1427]; exact (kp_M (by decide)))
  have hc1428 : 0 < gN_ σ1426 1 := by rw [e1427]; exact hc1393
  have hc1429 : (gN_ σ 10) < gN_ σ1426 10 := by rw [e1427]; exact hc1394
  have hc1430 : (gN_ σ17 50) < gN_ σ1426 50 := by rw [e1427]; exact hc1395
  have hc1431 : (gN_ σ37 50) < gN_ σ1426 50 := by rw [e1427]; exact hc1396
  have hc1432 : (gN_ σ60 50) < gN_ σ1426 50 := by rw [e1427]; exact hc1397
  have hc1433 : (gN_ σ86 60) < gN_ σ1426 60 := by rw [e1427]; exact hc1398
  have hc1434 : (gN_ σ115 65) < gN_ σ1426 65 := by rw [e1427]; exact hc1399
  have hc1435 : (gN_ σ147 70) < gN_ σ1426 70 := by rw [e1427]; exact hc1400
  have hc1436 : (gN_ σ178 72) < gN_ σ1426 72 := by rw [e1427]; exact hc1401
  have hc1437 : (gN_ σ212 74) < gN_ σ1426 74 := by rw [e1427]; exact hc1402
  have hc1438 : (gN_ σ249 76) < gN_ σ1426 76 := by rw [e1427]; exact hc1403
  have hc1439 : (gN_ σ289 20) < gN_ σ1426 20 := by rw [e1427]; exact hc1404
  have hc1440 : (gN_ σ318 21) < gN_ σ1426 21 := by rw [e1427]; exact hc1405
  have hc1441 : (gN_ σ349 22) < gN_ σ1426 22 := by rw [e1427]; exact hc1406
  have hc1442 : (gN_ σ382 23) < gN_ σ1426 23 := by rw [e1427]; exact hc1407
  have hc1443 : (gN_ σ417 24) < gN_ σ1426 24 := by rw [e1427]; exact hc1408
  have hc1444 : (gN_ σ454 25) < gN_ σ1426 25 := by rw [e1427]; exact hc1409
  have hc1445 : (gN_ σ493 26) < gN_ σ1426 26 := by rw [e1427]; exact hc1410
  have hc1446 : (gN_ σ534 27) < gN_ σ1426 27 := by rw [e1427]; exact hc1411
  have hc1447 : (gN_ σ577 28) < gN_ σ1426 28 := by rw [e1427]; exact hc1412
  have hc1448 : (gN_ σ622 29) < gN_ σ1426 29 := by rw [e1427]; exact hc1413
  have hc1449 : (gN_ σ669 30) < gN_ σ1426 30 := by rw [e1427]; exact hc1414
  have hc1450 : (gN_ σ718 31) < gN_ σ1426 31 := by rw [e1427]; exact hc1415
  have hc1451 : (gN_ σ769 32) < gN_ σ1426 32 := by rw [e1427]; exact hc1416
  have hc1452 : (gN_ σ821 32) < gN_ σ1426 32 := by rw [e1427]; exact hc1417
  have hc1453 : (gN_ σ876 32) < gN_ σ1426 32 := by rw [e1427]; exact hc1418
  have hc1454 : (gN_ σ933 35) < gN_ σ1426 35 := by rw [e1427]; exact hc1419
  have hc1455 : (gN_ σ992 36) < gN_ σ1426 36 := by rw [e1427]; exact hc1420
  have hc1456 : (gN_ σ1053 37) < gN_ σ1426 37 := by rw [e1427]; exact hc1421
  have hc1457 : (gN_ σ1116 38) < gN_ σ1426 38 := by rw [e1427]; exact hc1422
  have hc1458 : (gN_ σ1181 39) < gN_ σ1426 39 := by rw [e1427]; exact hc1423
  have hc1459 : (gN_ σ1248 40) < gN_ σ1426 40 := by rw [e1427]; exact hc1424
  have hc1460 : (gN_ σ1317 87) < gN_ σ1426 87 := by rw [e1427]; exact hc1425
  refine lv_iconst (v := 0) hx hb dX1_init_296 (by decide) ?_
  refine lv_istore_n (lv' := [(1, .int (0 : Int32)), (0, .ref (L 1 0))]) hx hb dX1_init_297 rfl hl (by decide) rfl (fun ls hl => ?_)
  exact hL298 fu_ L σ1426 (0 : Int32) _ _ _ _ ls hx0 hcs hrm hW (lv_sub hl [1, 0] rfl) hs
