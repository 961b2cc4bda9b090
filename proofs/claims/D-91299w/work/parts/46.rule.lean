set_option maxRecDepth 100000
section
variable {p : Program} {l : Launch} {e : Env} {R : Room} {s : State} {m : MethodId} {args : Array Value} {below : List Frame} {meth : Method} {c : Code} {H : Heap} {locs : List Loc} {cells slots : Nat} {Q : State → Prop} {cc : ByteArray} {pc : Nat} {ls : Array Slot} {rest : List Value} {g : wg_T} {L : ly_T} {σ : st_T}
theorem gf_X1_251 (hexec : p.tables.exec = Jvm.exec) (hb : c.code = cc) (hts : ∀ w ∈ lw_all, w.before args s = true) (hown : s.vm.findClass RX1 = some m.cls) (hW : wv g L σ s H locs) {i : Nat} (hpr : pr σ 87 i) (hdg : decode cc pc = .ok (.getfield 251, 3)) (kk : W p l e R s m args below meth c H locs cells slots Q (F0 m (pc + 3) ls (.int (gF_ σ 87 8 i) :: rest))) : W p l e R s m args below meth c H locs cells slots Q (F0 m pc ls (.ref (L 87 i) :: rest)) :=
  ww_getN (d := (0, 0, 0)) hexec hb hts hown hW 87 i 8 hpr (obv_0 rfl) rfl in_X5 rfl (Nat.le_of_ble_eq_true rfl) (hW.nw 17 rfl) (fun _ h => h) hdg kk
theorem pf_X1_156 (hexec : p.tables.exec = Jvm.exec) (hb : c.code = cc) (hts : ∀ w ∈ lw_all, w.before args s = true) (hown : s.vm.findClass RX1 = some m.cls) (hW : wv g L σ s H locs) {i : Nat} (hpr : pr σ 1 i) {n : Nat} (hpn : pr σ 87 n) (hfl : gP_ σ 1 (200 + 31) i ≠ 0) (hdg : decode cc pc = .ok (.putfield 156, 3)) (kk : ∀ (H1 : Heap) (locs1 : List Loc), wv g L (sP_ σ 1 31 i n) s H1 locs1 → W p l e R s m args below meth c H1 locs1 cells slots Q (F0 m (pc + 3) ls rest)) : W p l e R s m args below meth c H locs cells slots Q (F0 m pc ls (.ref (L 87 n) :: .ref (L 1 i) :: rest)) :=
  ww_putP hexec hb hts hown hW 1 i 31 hpr hpn hfl (Nat.le_of_ble_eq_true rfl) (Nat.le_of_ble_eq_true rfl) (obv_0 rfl) rfl in_X1 tyX1_ok nmX1 rfl (Nat.le_of_ble_eq_true rfl) (Or.inl (hts _ q393)) (fun _ h => h) rfl rfl (fun _ => rfl) (fun _ => rfl) hdg kk
end
theorem hd_X1_rule : yX1_rule.cls = RX1 ∧ yX1_rule.cls ≠ "java/lang/invoke/MethodHandle" ∧ yX1_rule.cls ≠ "java/lang/invoke/VarHandle" ∧ (parseMethodDescriptor yX1_rule.desc).map (fun d => d.parameters.length) = some 1 := by decide +kernel
noncomputable def m_X1_rule_L17 (σ : st_T) (x1 : Int32) (t0 : Int32) : Option ((Nat ⊕ Int32) × st_T) := (m_X1_wrong t0).bind fun o3 => sm_ o3 (fun k4 => some ((.inl k4), (bX_ σ))) (fun v5 => lt_ (sF_ σ 1 32 0 (0 : Int32)) fun σ6 => if 0 < gN_ σ6 1 then lt_ (nO_ σ6 87 0 12) fun σ10 => ck2_ σ10 ((m_X5_init σ10 (gN_ σ6 87) x1).bind fun σ16 => if cu_ σ10 ≤ cu_ σ16 ∧ su_ σ10 ≤ su_ σ16 then ck2_ σ16 (pif_ (rdy σ16) (bn2_ (m_X5_read σ16 (gN_ σ6 87)) fun o24 σ25 => if cu_ σ16 ≤ cu_ σ25 ∧ su_ σ16 ≤ su_ σ25 then ck2_ σ25 (sm_ o24 (fun k26 => if k26 = 4 then some ((.inr ((-2 : Int32) - (gF_ σ25 87 8 (gN_ σ6 87)))), σ25) else none) (fun v27 => lt_ (sP_ σ25 1 31 0 (gN_ σ6 87)) fun σ37 => some ((.inr (gF_ σ37 87 9 (gN_ σ6 87))), σ37))) else none)) else none) else none)
noncomputable def m_X1_rule (σ : st_T) (a1 : Int32) : Option ((Nat ⊕ Int32) × st_T) := (m_X1_in a1 (0 : Int32) (gF_ σ 1 32 0)).bind fun v43 => if v43 = 0 then m_X1_rule_L17 σ a1 (1 : Int32) else m_X1_rule_L17 σ a1 (0 : Int32)
set_option maxHeartbeats 4000000 in
theorem c_X1_rule (g : wg_T) (hgm : gm g = true) (l : Launch) (L : ly_T) (σ : st_T) (a1 : Int32) (hst : l.stackTraces = false) (o_ : Nat ⊕ Int32) (σ_ : st_T) (hs : m_X1_rule σ a1 = some (o_, σ_)) : YI g l yX1_rule (wsW_ yX1_rule cX1_rule 4 (some .int) [(35, 39, 42, 249)]) 167 4270 [.ref (L 1 0), .int a1] L σ o_ σ_ := by
  refine hbody.met (by decide) (Nat.le_of_ble_eq_true rfl) ?_
  intro p e s m args below meth c ls hx hb hr hml hlocks hts hown hnm htab hW hl
  have hown : s.vm.findClass RX1 = some m.cls := hown
  obtain ⟨L0, hL0⟩ : ∃ L0, L0 = L := ⟨_, rfl⟩
  obtain ⟨σ0, hσ0⟩ : ∃ σ0, σ0 = σ := ⟨_, rfl⟩
  rw [← hσ0, ← hL0]
  have hx0 : lext L0 σ0 L σ := by rw [hL0, hσ0]; exact lext.refl
  have hcs : bk σ0 σ 0 0 := bk.start hσ0
  have hrm : 0 ≤ cu_ σ_ - cu_ σ0 ∧ 0 ≤ su_ σ_ - su_ σ0 := ⟨Nat.zero_le _, Nat.zero_le _⟩
  have hl : lv_has ls 4 [(0, .ref (L 1 0)), (1, .int a1)] := hl
  unfold m_X1_rule at hs
  have hL17 : ∀ (L : ly_T) (σ : st_T) (x1 : Int32) (t0 : Int32) (H : Heap) (locs : List Loc) (cells slots : Nat) (ls : Array Slot), lext L0 σ0 L σ → bk σ0 σ cells slots → (cells ≤ cu_ σ_ - cu_ σ0 ∧ slots ≤ su_ σ_ - su_ σ0) → wv g L σ s H locs → lv_has ls 4 [(0, .ref (L 1 0)), (1, .int x1)] → m_X1_rule_L17 σ x1 t0 = some (o_, σ_) → W p l e (wrA 167 4270 σ0 σ_) s m args below meth c H locs cells slots (vx_MQ below (yXi g L0 σ0 o_ σ_) (yX g L0 σ0 o_ σ_) args s (cu_ σ_ - cu_ σ0) (su_ σ_ - su_ σ0) (fun q => gz g ≤ q)) (F0 m 17 ls [.int t0]) := by
    intro L σ x1 t0 H locs cells slots ls hx0 hcs hrm hW hl hs
    unfold m_X1_rule_L17 at hs
    obtain ⟨o3, hc1, hs⟩ := ww_bnd hs
    rcases o3 with k4 | v5
    · have hs := ww_sL hs
      have hs := ww_S hs
      have e1 : o_ = .inl k4 := congrArg Prod.fst hs
      have e2 : σ_ = bX_ σ := congrArg Prod.snd hs
      subst e1
      have hrmx := hcs.room (σ1 := bX_ σ) (σ_ := σ_) (a := 1) (b := 6) rfl rfl (by rw [e2]; exact ⟨Nat.le_refl _, Nat.le_refl _⟩)
      exact wz_propH (vx_runS (As := [.int t0]) (rest := []) ⟨hx, hb, hml, hown, hts⟩ (c_X1_wrong g hgm l L σ t0 hst _ hc1) (va_cwS 1 hts (lw_S q848 q849 q111 q850) rfl rfl rfl hd_X1_wrong.2 ⟨(Nat.le_of_ble_eq_true rfl), (Nat.le_of_ble_eq_true rfl)⟩) (ww_preS hW) rfl rfl hl.1 rfl (lv_room (Nat.le_of_ble_eq_true rfl)) dX1_rule_17 hrmx) no_v hx0 hW hlocks (by rw [htab]; decide) rfl e2 hrmx
    · have hs := ww_sR hs
      refine ww_xv0 (vx_runS (As := [.int t0]) (rest := []) ⟨hx, hb, hml, hown, hts⟩ (c_X1_wrong g hgm l L σ t0 hst _ hc1) (va_cwS 1 hts (lw_S q848 q849 q111 q850) rfl rfl rfl hd_X1_wrong.2 ⟨(Nat.le_of_ble_eq_true rfl), (Nat.le_of_ble_eq_true rfl)⟩) (ww_preS hW) rfl rfl hl.1 rfl (lv_room (Nat.le_of_ble_eq_true rfl)) dX1_rule_17 hrm) hW (fun H locs hW => ?_)
      refine lv_aload_n hx hb dX1_rule_20 rfl (lv_at hl 0 rfl) ?_
      refine lv_iconst (v := 0) hx hb dX1_rule_21 (by decide) ?_
      obtain ⟨σ6, e7, hs⟩ := ww_let hs
      refine pf_X1_243 hx hb hts hown hW (pr_st (hW.rd hgm) (Nat.le_of_ble_eq_true rfl)) dX1_rule_22 (fun H locs hW => ?_)
      have hW : wv g L σ6 s H locs := by rw [e7]; exact hW
      obtain ⟨hx0, hcs⟩ := lx_s (σ1 := σ6) hx0 hcs (by rw [e7]; exact kp_F)
      have hW := hW.raw
      obtain ⟨hc8, hs⟩ := ww_chk hs
      have hp9 : pr σ6 1 0 := (pr_dy hc8 rfl rfl)
      obtain ⟨σ10, e11, hs⟩ := ww_let hs
      obtain ⟨hs, hck⟩ := ww_ck2 hs
      have hrm1 := hcs.room (σ1 := σ10) (a := 1) (b := 12) (by rw [e11]; rfl) (by rw [e11]; rfl) hck
      refine ww_newo (ci := 10) hx hb hts in_X5 tyX5 tyX5_ok hown (hts _ q267) (hts _ q268) (hts _ q118) hW 87 0 (obv_0 rfl) rfl df_87 (Nat.le_of_ble_eq_true rfl) rfl sole_87 (Or.inl rfl) (Or.inl rfl) hrm1.1 hrm1.2 dX1_rule_25 (fun H L hx1 hW => ?_)
      rw [← e11] at hx1 hW
      have hcs := hcs.more (σ1 := σ10) (a := 1) (b := 12) (by rw [e11]; rfl) (by rw [e11]; rfl)
      have hrm := hrm1
      have hc12 : 0 < gN_ σ10 1 := Nat.lt_of_lt_of_le hc8 (hx1.2.1 1)
      have hc13 : gN_ σ6 87 < gN_ σ10 87 := by rw [e11]; exact nO_lt rfl
      rw [show ow_ 87 = 87 from rfl]
      have hl : lv_has ls 4 [(0, .ref (L 1 0)), (1, .int x1)] := by rw [hx1.at hp9 (by decide)]; exact hl
      have hx0 := hx0.trans hx1
      refine lv_dup hx hb dX1_rule_28 rfl ?_
      refine lv_aload_n hx hb dX1_rule_29 rfl (lv_at hl 0 rfl) ?_
      refine lv_iload_n hx hb dX1_rule_30 rfl (lv_at hl 1 rfl) ?_
      obtain ⟨σ16, hc14, hs⟩ := ww_bnd hs
      have hl : lv_has ls 4 [(0, .ref (L 1 0))] := lv_sub hl [0] rfl
      have hp17 : pr σ10 1 0 := (pr_dy hc12 rfl rfl)
      have hp18 : pr σ10 87 (gN_ σ6 87) := (pr_dy hc13 rfl rfl)
      obtain ⟨hc19, hs⟩ := ww_chk hs
      obtain ⟨hs, hck⟩ := ww_ck2 hs
      have hrm1 := hcs.roomC hc19 hck
      refine wa_cv (va_runI (As := [.ref (L 1 0), .int x1]) (rest := [.ref (L 87 (gN_ σ6 87))]) ⟨hx, hb, hml, hown, hts⟩ (c_X5_init (rw_ g) rfl l L σ10 (gN_ σ6 87) x1 _ hc14) (cwI 2 hts (lw_meth q271) rfl rfl rfl (hts _ q118) (hts _ q269) (hts _ q270) rfl hd_X5_init.2 ⟨(Nat.le_of_ble_eq_true rfl), (Nat.le_of_ble_eq_true rfl)⟩) (ww_preS hW) rfl rfl hl.1 rfl (lv_room (Nat.le_of_ble_eq_true rfl)) dX1_rule_31 hrm1) hW (fun H locs L hx1 hW => ?_)
      have hc20 : 0 < gN_ σ16 1 := Nat.lt_of_lt_of_le hc12 (hx1.2.1 1)
      have hc21 : (gN_ σ6 87) < gN_ σ16 87 := Nat.lt_of_lt_of_le hc13 (hx1.2.1 87)
      have hcs := hcs.call hc19
      have hrm := hrm1
      have hl : lv_has ls 4 [(0, .ref (L 1 0))] := by rw [hx1.at hp17 (by decide)]; exact hl
      refine ww_stk (st1 := [.ref (L 87 (gN_ σ6 87))]) (by rw [hx1.at hp18 (by decide)]) ?_
      have hx0 := hx0.trans hx1
      obtain ⟨hrdy, hs⟩ := ww_pif hs
      have hW := hW.ready hrdy
      refine lv_astore_n (lv' := [(2, .ref (L 87 (gN_ σ6 87))), (0, .ref (L 1 0))]) hx hb dX1_rule_34 rfl hl (by decide) rfl (fun ls hl => ?_)
      refine lv_aload_n hx hb dX1_rule_35 rfl (lv_at hl 0 rfl) ?_
      obtain ⟨o24, σ25, hc22, hs⟩ := ww_bn2 hs
      have hp28 : pr σ16 87 (gN_ σ6 87) := (pr_dy hc21 rfl rfl)
      have hp29 : pr σ16 1 0 := (pr_st (hW.rd hgm) (Nat.le_of_ble_eq_true rfl))
      obtain ⟨hc30, hs⟩ := ww_chk hs
      obtain ⟨hs, hck⟩ := ww_ck2 hs
      have hrm1 := hcs.roomC hc30 hck
      rcases o24 with k26 | v27
      · have hs := ww_sL hs
        by_cases hk31 : k26 = 4
        · have hs := ww_T hs hk31
          rw [hk31] at hc22
          refine ww_catA (hpc := 42) (vx_runV (As := []) (rest := []) ⟨hx, hb, hml, hown, hts⟩ (c_X5_read g hgm l L σ16 (gN_ σ6 87) hst _ _ hc22) (cwV 0 hts (lw_V q954 q955 q956 q118 q957) rfl rfl rfl hd_X5_read ⟨(Nat.le_of_ble_eq_true rfl), (Nat.le_of_ble_eq_true rfl)⟩) (ww_preV hW (pr_dy hc21 rfl rfl) (obv_0 rfl) rfl) rfl rfl hl.1 rfl (lv_room (Nat.le_of_ble_eq_true rfl)) dX1_rule_36 hrm1) noA_v hW (fun H1 locs1 q ce cells1 slots1 h1 h2 h3 kk => vx_catch (own := RX1) (name := exN 4) hown [] ⟨35, 39, 42, 249⟩ [] (htab.trans rfl) (fun z hz => by cases hz) rfl (by decide) (hts _ q953) (va_Nw.use rfl (hW.nw 44 rfl)) h1 h2 h3 kk) (fun H locs L q32 hx1 hW => ?_)
          have hc33 : 0 < gN_ σ25 1 := Nat.lt_of_lt_of_le hc20 (hx1.2.1 1)
          have hc34 : (gN_ σ6 87) < gN_ σ25 87 := Nat.lt_of_lt_of_le hc21 (hx1.2.1 87)
          have hcs := hcs.call hc30
          have hrm := hrm1
          have hl : lv_has ls 4 [(2, .ref (L 87 (gN_ σ6 87))), (0, .ref (L 1 0))] := by rw [hx1.at hp28 (by decide), hx1.at hp29 (by decide)]; exact hl
          have hx0 := hx0.trans hx1
          refine lv_astore_n (lv' := [(3, .ref q32), (2, .ref (L 87 (gN_ σ6 87))), (0, .ref (L 1 0))]) hx hb dX1_rule_42 rfl hl (by decide) rfl (fun ls hl => ?_)
          refine lv_bipush (v := (-2)) hx hb dX1_rule_43 (by decide) ?_
          refine lv_aload_n hx hb dX1_rule_45 rfl (lv_at hl 1 rfl) ?_
          refine gf_X1_251 hx hb hts hown hW (pr_dy hc34 rfl rfl) dX1_rule_46 ?_
          refine lv_isub hx hb dX1_rule_49 ?_
          have hs := ww_S hs
          exact wz_i hx hb hr hlocks hx0 hcs hW (congrArg Prod.fst hs) (congrArg Prod.snd hs) dX1_rule_50
        · have hs := ww_F hs hk31
          cases hs
      · have hs := ww_sR hs
        refine wz_cv (vx_runV (As := []) (rest := []) ⟨hx, hb, hml, hown, hts⟩ (c_X5_read g hgm l L σ16 (gN_ σ6 87) hst _ _ hc22) (cwV 0 hts (lw_V q954 q955 q956 q118 q957) rfl rfl rfl hd_X5_read ⟨(Nat.le_of_ble_eq_true rfl), (Nat.le_of_ble_eq_true rfl)⟩) (ww_preV hW (pr_dy hc21 rfl rfl) (obv_0 rfl) rfl) rfl rfl hl.1 rfl (lv_room (Nat.le_of_ble_eq_true rfl)) dX1_rule_36 hrm1) hW (fun H locs L hx1 hW => ?_)
        have hc35 : 0 < gN_ σ25 1 := Nat.lt_of_lt_of_le hc20 (hx1.2.1 1)
        have hc36 : (gN_ σ6 87) < gN_ σ25 87 := Nat.lt_of_lt_of_le hc21 (hx1.2.1 87)
        have hcs := hcs.call hc30
        have hrm := hrm1
        have hl : lv_has ls 4 [(2, .ref (L 87 (gN_ σ6 87))), (0, .ref (L 1 0))] := by rw [hx1.at hp28 (by decide), hx1.at hp29 (by decide)]; exact hl
        have hx0 := hx0.trans hx1
        refine lv_goto (tgt := 51) hx hb dX1_rule_39 (by decide) ?_
        refine lv_aload_n hx hb dX1_rule_51 rfl (lv_at hl 1 rfl) ?_
        refine lv_aload_n hx hb dX1_rule_52 rfl (lv_at hl 0 rfl) ?_
        obtain ⟨σ37, e38, hs⟩ := ww_let hs
        refine pf_X1_156 hx hb hts hown hW (pr_st (hW.rd hgm) (Nat.le_of_ble_eq_true rfl)) (pr_dy hc36 rfl rfl) (hW.fl hgm (pr_st (hW.rd hgm) (Nat.le_of_ble_eq_true rfl)) 31 (by decide) rfl (by decide)) dX1_rule_53 (fun H locs hW => ?_)
        have hW : wv g L σ37 s H locs := by rw [e38]; exact hW
        obtain ⟨hx0, hcs⟩ := lx_s (σ1 := σ37) hx0 hcs (by rw [e38]; exact (kp_P (by decide)))
        have hc39 : 0 < gN_ σ37 1 := by rw [e38]; exact hc35
        have hc40 : (gN_ σ6 87) < gN_ σ37 87 := by rw [e38]; exact hc36
        refine lv_aload_n hx hb dX1_rule_56 rfl (lv_at hl 0 rfl) ?_
        refine gf_X1_253 hx hb hts hown hW (pr_dy hc40 rfl rfl) dX1_rule_57 ?_
        have hs := ww_S hs
        exact wz_i hx hb hr hlocks hx0 hcs hW (congrArg Prod.fst hs) (congrArg Prod.snd hs) dX1_rule_60
  refine lv_iload_n hx hb dX1_rule_0 rfl (lv_at hl 1 rfl) ?_
  refine lv_iconst (v := 0) hx hb dX1_rule_1 (by decide) ?_
  refine lv_aload_n hx hb dX1_rule_2 rfl (lv_at hl 0 rfl) ?_
  refine gf_X1_243 hx hb hts hown hW (pr_st (hW.rd hgm) (Nat.le_of_ble_eq_true rfl)) dX1_rule_3 ?_
  obtain ⟨v43, hc41, hs⟩ := ww_bnd hs
  refine ww_ci (va_runS (As := [.int a1, .int (0 : Int32), .int (gF_ σ 1 32 0)]) (rest := []) ⟨hx, hb, hml, hown, hts⟩ (c_X1_in g hgm l L σ a1 (0 : Int32) (gF_ σ 1 32 0) _ hc41) (va_cwS 3 hts (lw_S q824 q825 q111 q826) rfl rfl rfl hd_X1_in.2 ⟨(Nat.le_of_ble_eq_true rfl), (Nat.le_of_ble_eq_true rfl)⟩) (ww_preS hW) rfl rfl hl.1 rfl (lv_room (Nat.le_of_ble_eq_true rfl)) dX1_rule_6 hrm) hW (fun H locs hW => ?_)
  refine lv_if_ne (tgt := 16) hx hb dX1_rule_9 (by decide) (fun hc44 => ?_) (fun hc44 => ?_)
  · have hs := ww_F hs hc44
    refine lv_iconst (v := 0) hx hb dX1_rule_16 (by decide) ?_
    exact hL17 L σ a1 (0 : Int32) _ _ _ _ ls hx0 hcs hrm hW (lv_sub hl [0, 1] rfl) hs
  · have hs := ww_T hs hc44
    refine lv_iconst (v := 1) hx hb dX1_rule_12 (by decide) ?_
    refine lv_goto (tgt := 17) hx hb dX1_rule_13 (by decide) ?_
    exact hL17 L σ a1 (1 : Int32) _ _ _ _ ls hx0 hcs hrm hW (lv_sub hl [0, 1] rfl) hs
