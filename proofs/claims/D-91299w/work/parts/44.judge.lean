set_option maxRecDepth 100000
section
variable {p : Program} {l : Launch} {e : Env} {R : Room} {s : State} {m : MethodId} {args : Array Value} {below : List Frame} {meth : Method} {c : Code} {H : Heap} {locs : List Loc} {cells slots : Nat} {Q : State → Prop} {cc : ByteArray} {pc : Nat} {ls : Array Slot} {rest : List Value} {g : wg_T} {L : ly_T} {σ : st_T}
theorem gf_X1_112 (hexec : p.tables.exec = Jvm.exec) (hb : c.code = cc) (hts : ∀ w ∈ lw_all, w.before args s = true) (hown : s.vm.findClass RX1 = some m.cls) (hW : wv g L σ s H locs) {i : Nat} (hpr : pr σ 1 i) (hfl : gP_ σ 1 (200 + 19) i ≠ 0) (hdg : decode cc pc = .ok (.getfield 112, 3)) (kk : W p l e R s m args below meth c H locs cells slots Q (F0 m (pc + 3) ls (.ref (L 29 0) :: rest))) : W p l e R s m args below meth c H locs cells slots Q (F0 m pc ls (.ref (L 1 i) :: rest)) :=
  ww_get (d := (1, 29, 0)) hexec hb hts hown hW 1 i 19 hpr (obv_0 rfl) rfl in_X1 rfl (Nat.le_of_ble_eq_true rfl) (hts _ q379) (fun _ h => h) hdg (by rw [fv_p (fun z => by cases z) hfl]; exact kk)
theorem gf_X1_422 (hexec : p.tables.exec = Jvm.exec) (hb : c.code = cc) (hts : ∀ w ∈ lw_all, w.before args s = true) (hown : s.vm.findClass RX1 = some m.cls) (hW : wv g L σ s H locs) {i : Nat} (hpr : pr σ 87 i) (hfl : gP_ σ 87 (200 + 7) i ≠ 0) (hdg : decode cc pc = .ok (.getfield 422, 3)) (kk : W p l e R s m args below meth c H locs cells slots Q (F0 m (pc + 3) ls (.ref (L 91 (gP_ σ 87 7 i)) :: rest))) : W p l e R s m args below meth c H locs cells slots Q (F0 m pc ls (.ref (L 87 i) :: rest)) :=
  ww_getN (d := (3, 91, 0)) hexec hb hts hown hW 87 i 7 hpr (obv_0 rfl) rfl in_X5 rfl (Nat.le_of_ble_eq_true rfl) (hW.nw 16 rfl) (fun _ h => h) hdg (by rw [fv_p (fun z => by cases z) hfl]; exact kk)
theorem gf_X1_431 (hexec : p.tables.exec = Jvm.exec) (hb : c.code = cc) (hts : ∀ w ∈ lw_all, w.before args s = true) (hown : s.vm.findClass RX1 = some m.cls) (hW : wv g L σ s H locs) {i : Nat} (hpr : pr σ 87 i) (hdg : decode cc pc = .ok (.getfield 431, 3)) (kk : W p l e R s m args below meth c H locs cells slots Q (F0 m (pc + 3) ls (.int (gF_ σ 87 6 i) :: rest))) : W p l e R s m args below meth c H locs cells slots Q (F0 m pc ls (.ref (L 87 i) :: rest)) :=
  ww_getN (d := (0, 0, 0)) hexec hb hts hown hW 87 i 6 hpr (obv_0 rfl) rfl in_X5 rfl (Nat.le_of_ble_eq_true rfl) (hW.nw 15 rfl) (fun _ h => h) hdg kk
theorem pf_X1_416 (hexec : p.tables.exec = Jvm.exec) (hb : c.code = cc) (hts : ∀ w ∈ lw_all, w.before args s = true) (hown : s.vm.findClass RX1 = some m.cls) (hW : wv g L σ s H locs) {i : Nat} (hpr : pr σ 83 i) {v : Int32} (hdg : decode cc pc = .ok (.putfield 416, 3)) (kk : ∀ (H1 : Heap) (locs1 : List Loc), wv g L (sF_ σ 83 3 i v) s H1 locs1 → W p l e R s m args below meth c H1 locs1 cells slots Q (F0 m (pc + 3) ls rest)) : W p l e R s m args below meth c H locs cells slots Q (F0 m pc ls (.int v :: .ref (L 83 i) :: rest)) :=
  ww_put hexec hb hts hown hW 83 i 3 hpr (obv_0 rfl) rfl in_X17 tyX17_ok nmX17 rfl (Nat.le_of_ble_eq_true rfl) (Or.inr ⟨_, va_Nw.use rfl (hW.nw 31 rfl)⟩) (fun _ h => h) rfl rfl rfl rfl hdg kk
end
theorem hd_X1_judge : yX1_judge.cls = RX1 ∧ yX1_judge.cls ≠ "java/lang/invoke/MethodHandle" ∧ yX1_judge.cls ≠ "java/lang/invoke/VarHandle" ∧ (parseMethodDescriptor yX1_judge.desc).map (fun d => d.parameters.length) = some 4 := by decide +kernel
def m_X1_judge_L46 (σ : st_T) (x2 : Int32) (x3 : Int32) (x4 : Int32) (ix5 : Nat) (t0 : Int32) : Option ((Nat ⊕ Int32) × st_T) := (m_X1_wrong t0).bind fun o3 => sm_ o3 (fun k4 => some ((.inl k4), σ)) (fun v5 => if ix5 < gN_ σ 83 then if (gF_ σ 83 3 ix5) = (-1 : Int32) then if (gF_ σ 1 33 0) ≤ ((gF_ σ 83 1 ix5) + (10 : Int32)) then (m_X17_latest σ ix5).bind fun v11 => lt_ (sE_ σ 29 0 (0 : Int32).toNatClampNeg v11) fun σ12 => (m_X17_latest σ12 ix5).bind fun v17 => lt_ (sE_ σ12 29 0 (1 : Int32).toNatClampNeg (imin (imax (imin x2 x3) (imin (imax x2 x3) x4)) v17)) fun σ18 => lt_ (sE_ σ18 29 0 (2 : Int32).toNatClampNeg (((gF_ σ18 83 1 ix5) / (30 : Int32)) - ((gF_ σ18 83 1 ix5) / (30 : Int32)) / (12 : Int32) * (12 : Int32))) fun σ21 => lt_ (sE_ σ21 29 0 (3 : Int32).toNatClampNeg (gF_ σ21 1 35 0)) fun σ24 => lt_ (sE_ σ24 29 0 (4 : Int32).toNatClampNeg ((gF_ σ24 1 33 0) - (gF_ σ24 83 1 ix5))) fun σ27 => if (gP_ σ27 1 31 0) < gN_ σ27 87 then if (gP_ σ27 87 7 (gP_ σ27 1 31 0)) < gN_ σ27 91 then (m_fv 410 σ27 (gP_ σ27 87 7 (gP_ σ27 1 31 0))).bind fun v32 => lt_ (sF_ σ27 83 3 ix5 (imin (imin (imax v32 (0 : Int32)) (gF_ σ27 87 6 (gP_ σ27 1 31 0))) (gF_ σ27 1 35 0))) fun σ34 => lt_ (sF_ σ34 1 35 0 ((gF_ σ34 1 35 0) - (gF_ σ34 83 3 ix5))) fun σ39 => some ((.inr (gF_ σ39 83 3 ix5)), σ39) else none else none else some ((.inr (-2 : Int32)), σ) else some ((.inr (-1 : Int32)), σ) else none)
def m_X1_judge_L41 (k46 : st_T → Int32 → Int32 → Int32 → Nat → Int32 → Option ((Nat ⊕ Int32) × st_T)) (σ : st_T) (x2 : Int32) (x3 : Int32) (x4 : Int32) (ix5 : Nat) : Option ((Nat ⊕ Int32) × st_T) := k46 σ x2 x3 x4 ix5 (1 : Int32)
def m_X1_judge (σ : st_T) (a1 : Int32) (a2 : Int32) (a3 : Int32) (a4 : Int32) : Option ((Nat ⊕ Int32) × st_T) := (m_X1_claimAt σ a1).bind fun o46 => sm_ o46 (fun k47 => some ((.inl k47), σ)) (fun v48 => (m_X1_in a2 (0 : Int32) (10000 : Int32)).bind fun v51 => if v51 = 0 then (m_X1_judge_L41 m_X1_judge_L46) σ a2 a3 a4 v48 else (m_X1_in a3 (0 : Int32) (10000 : Int32)).bind fun v55 => if v55 = 0 then (m_X1_judge_L41 m_X1_judge_L46) σ a2 a3 a4 v48 else (m_X1_in a4 (0 : Int32) (10000 : Int32)).bind fun v59 => if v59 = 0 then (m_X1_judge_L41 m_X1_judge_L46) σ a2 a3 a4 v48 else m_X1_judge_L46 σ a2 a3 a4 v48 (0 : Int32))
set_option maxHeartbeats 4000000 in
theorem c_X1_judge (g : wg_T) (hgm : gm g = true) (l : Launch) (L : ly_T) (σ : st_T) (a1 : Int32) (a2 : Int32) (a3 : Int32) (a4 : Int32) (hst : l.stackTraces = false) (o_ : Nat ⊕ Int32) (σ_ : st_T) (hs : m_X1_judge σ a1 a2 a3 a4 = some (o_, σ_)) : XI g l yX1_judge (ws_ yX1_judge cX1_judge 7 (some .int)) 1233 33710 (xc o_) (xs o_) [.ref (L 1 0), .int a1, .int a2, .int a3, .int a4] L σ o_ σ_ := by
  refine xbody.met (by decide) (Nat.le_of_ble_eq_true rfl) ?_
  intro p e s m args below meth c ls hx hb hr hml hlocks hts hown hnm hout hW hl
  have hown : s.vm.findClass RX1 = some m.cls := hown
  have hl : lv_has ls 7 [(0, .ref (L 1 0)), (1, .int a1), (2, .int a2), (3, .int a3), (4, .int a4)] := hl
  unfold m_X1_judge at hs
  have hL46 : ∀ (σ : st_T) (x2 : Int32) (x3 : Int32) (x4 : Int32) (ix5 : Nat) (t0 : Int32) (H : Heap) (locs : List Loc) (ls : Array Slot), wv g L σ s H locs → lv_has ls 7 [(0, .ref (L 1 0)), (2, .int x2), (3, .int x3), (4, .int x4), (5, .ref (L 83 ix5))] → m_X1_judge_L46 σ x2 x3 x4 ix5 t0 = some (o_, σ_) → W p l e (wrm 1233 33710 (xc o_) (xs o_)) s m args below meth c H locs 0 0 (vx_MQ below (wXi g L o_ σ_) (wX g o_ σ_ L) args s (xc o_) (xs o_) (fun q => gz g ≤ q)) (F0 m 46 ls [.int t0]) := by
    intro σ x2 x3 x4 ix5 t0 H locs ls hW hl hs
    unfold m_X1_judge_L46 at hs
    obtain ⟨o3, hc1, hs⟩ := ww_bnd hs
    rcases o3 with k4 | v5
    · have hs := ww_sL hs
      have hs := ww_S hs
      have e1 : o_ = .inl k4 := congrArg Prod.fst hs
      have e2 : σ_ = σ := congrArg Prod.snd hs
      subst e1
      exact wx_prop (vx_runS (As := [.int t0]) (rest := []) ⟨hx, hb, hml, hown, hts⟩ (c_X1_wrong g hgm l L σ t0 hst _ hc1) (va_cwS 1 hts (lw_S q848 q849 q111 q850) rfl rfl rfl hd_X1_wrong.2 ⟨(Nat.le_of_ble_eq_true rfl), (Nat.le_of_ble_eq_true rfl)⟩) (ww_preS hW) rfl rfl hl.1 rfl (lv_room (Nat.le_of_ble_eq_true rfl)) dX1_judge_46 ⟨Nat.le_of_ble_eq_true rfl, Nat.le_of_ble_eq_true rfl⟩) no_v hW hlocks hout rfl e2 (Nat.le_of_ble_eq_true rfl) (Nat.le_of_ble_eq_true rfl)
    · have hs := ww_sR hs
      refine ww_xv0 (vx_runS (As := [.int t0]) (rest := []) ⟨hx, hb, hml, hown, hts⟩ (c_X1_wrong g hgm l L σ t0 hst _ hc1) (va_cwS 1 hts (lw_S q848 q849 q111 q850) rfl rfl rfl hd_X1_wrong.2 ⟨(Nat.le_of_ble_eq_true rfl), (Nat.le_of_ble_eq_true rfl)⟩) (ww_preS hW) rfl rfl hl.1 rfl (lv_room (Nat.le_of_ble_eq_true rfl)) dX1_judge_46 ⟨Nat.zero_le _, Nat.zero_le _⟩) hW (fun H locs hW => ?_)
      refine lv_aload hx hb dX1_judge_49 (lv_at hl 4 rfl) ?_
      obtain ⟨hc6, hs⟩ := ww_chk hs
      refine gf_X1_416 hx hb hts hown hW (pr_dy hc6 rfl rfl) dX1_judge_51 ?_
      refine lv_iconst (v := (-1)) hx hb dX1_judge_54 (by decide) ?_
      refine lv_icmp_eq (tgt := 60) hx hb dX1_judge_55 (by decide) (fun hc7 => ?_) (fun hc7 => ?_)
      · have hs := ww_T hs hc7
        refine lv_aload_n hx hb dX1_judge_60 rfl (lv_at hl 0 rfl) ?_
        refine gf_X1_325 hx hb hts hown hW (pr_st (hW.rd hgm) (Nat.le_of_ble_eq_true rfl)) dX1_judge_61 ?_
        refine lv_aload hx hb dX1_judge_64 (lv_at hl 4 rfl) ?_
        refine gf_X1_409 hx hb hts hown hW (pr_dy hc6 rfl rfl) dX1_judge_66 ?_
        refine lv_bipush (v := 10) hx hb dX1_judge_69 (by decide) ?_
        refine lv_iadd hx hb dX1_judge_71 ?_
        refine lv_icmp_le (tgt := 78) hx hb dX1_judge_72 (by decide) (fun hc8 => ?_) (fun hc8 => ?_)
        · have hs := ww_T hs hc8
          refine lv_iload_n hx hb dX1_judge_78 rfl (lv_at hl 1 rfl) ?_
          refine lv_iload_n hx hb dX1_judge_79 rfl (lv_at hl 2 rfl) ?_
          refine va_mmin hx hb (hml.trans hl.1.symm) hown (hts _ q573) (hts _ q505) (hts _ q134) (hts _ q506) (Nat.le_of_ble_eq_true rfl) (Nat.le_of_ble_eq_true rfl) (Nat.le_of_ble_eq_true rfl) (Nat.le_of_ble_eq_true rfl) dX1_judge_80 ?_
          refine lv_iload_n hx hb dX1_judge_83 rfl (lv_at hl 1 rfl) ?_
          refine lv_iload_n hx hb dX1_judge_84 rfl (lv_at hl 2 rfl) ?_
          refine va_mmax hx hb (hml.trans hl.1.symm) hown (hts _ q603) (hts _ q604) (hts _ q134) (hts _ q605) (Nat.le_of_ble_eq_true rfl) (Nat.le_of_ble_eq_true rfl) (Nat.le_of_ble_eq_true rfl) (Nat.le_of_ble_eq_true rfl) dX1_judge_85 ?_
          refine lv_iload hx hb dX1_judge_88 (lv_at hl 3 rfl) ?_
          refine va_mmin hx hb (hml.trans hl.1.symm) hown (hts _ q573) (hts _ q505) (hts _ q134) (hts _ q506) (Nat.le_of_ble_eq_true rfl) (Nat.le_of_ble_eq_true rfl) (Nat.le_of_ble_eq_true rfl) (Nat.le_of_ble_eq_true rfl) dX1_judge_90 ?_
          refine va_mmax hx hb (hml.trans hl.1.symm) hown (hts _ q603) (hts _ q604) (hts _ q134) (hts _ q605) (Nat.le_of_ble_eq_true rfl) (Nat.le_of_ble_eq_true rfl) (Nat.le_of_ble_eq_true rfl) (Nat.le_of_ble_eq_true rfl) dX1_judge_93 ?_
          refine lv_istore (lv' := [(6, .int (imax (imin x2 x3) (imin (imax x2 x3) x4))), (0, .ref (L 1 0)), (2, .int x2), (3, .int x3), (4, .int x4), (5, .ref (L 83 ix5))]) hx hb dX1_judge_96 hl (by decide) rfl (fun ls hl => ?_)
          refine lv_aload_n hx hb dX1_judge_98 rfl (lv_at hl 1 rfl) ?_
          refine gf_X1_112 hx hb hts hown hW (pr_st (hW.rd hgm) (Nat.le_of_ble_eq_true rfl)) (hW.fl hgm (pr_st (hW.rd hgm) (Nat.le_of_ble_eq_true rfl)) 19 (by decide) rfl (by decide)) dX1_judge_99 ?_
          refine lv_iconst (v := 0) hx hb dX1_judge_102 (by decide) ?_
          refine lv_aload hx hb dX1_judge_103 (lv_at hl 5 rfl) ?_
          obtain ⟨v11, hc9, hs⟩ := ww_bnd hs
          refine ww_ci (va_runV (As := []) (rest := [.int (0 : Int32), .ref (L 29 0)]) ⟨hx, hb, hml, hown, hts⟩ (c_X17_latest g hgm l L σ ix5 _ hc9) (cwV 0 hts (lw_V q1417 q1418 q1419 q147 q1420) rfl rfl rfl hd_X17_latest ⟨(Nat.le_of_ble_eq_true rfl), (Nat.le_of_ble_eq_true rfl)⟩) (ww_preV hW (pr_dy hc6 rfl rfl) (obv_0 rfl) rfl) rfl rfl hl.1 rfl (lv_room (Nat.le_of_ble_eq_true rfl)) dX1_judge_105 ⟨Nat.le_of_ble_eq_true rfl, Nat.le_of_ble_eq_true rfl⟩) hW (fun H locs hW => ?_)
          obtain ⟨σ12, e13, hs⟩ := ww_let hs
          refine ww_iast hx hb hW 29 0 (pr_st (hW.rd hgm) (Nat.le_of_ble_eq_true rfl)) rfl (vin_lit rfl) dX1_judge_108 (fun H locs hW => ?_)
          have hW : wv g L σ12 s H locs := by rw [e13]; exact hW
          have hc14 : ix5 < gN_ σ12 83 := by rw [e13]; exact hc6
          refine lv_aload_n hx hb dX1_judge_109 rfl (lv_at hl 1 rfl) ?_
          refine gf_X1_112 hx hb hts hown hW (pr_st (hW.rd hgm) (Nat.le_of_ble_eq_true rfl)) (hW.fl hgm (pr_st (hW.rd hgm) (Nat.le_of_ble_eq_true rfl)) 19 (by decide) rfl (by decide)) dX1_judge_110 ?_
          refine lv_iconst (v := 1) hx hb dX1_judge_113 (by decide) ?_
          refine lv_iload hx hb dX1_judge_114 (lv_at hl 0 rfl) ?_
          refine lv_aload hx hb dX1_judge_116 (lv_at hl 5 rfl) ?_
          obtain ⟨v17, hc15, hs⟩ := ww_bnd hs
          refine ww_ci (va_runV (As := []) (rest := [.int (imax (imin x2 x3) (imin (imax x2 x3) x4)), .int (1 : Int32), .ref (L 29 0)]) ⟨hx, hb, hml, hown, hts⟩ (c_X17_latest g hgm l L σ12 ix5 _ hc15) (cwV 0 hts (lw_V q1417 q1418 q1419 q147 q1420) rfl rfl rfl hd_X17_latest ⟨(Nat.le_of_ble_eq_true rfl), (Nat.le_of_ble_eq_true rfl)⟩) (ww_preV hW (pr_dy hc14 rfl rfl) (obv_0 rfl) rfl) rfl rfl hl.1 rfl (lv_room (Nat.le_of_ble_eq_true rfl)) dX1_judge_118 ⟨Nat.le_of_ble_eq_true rfl, Nat.le_of_ble_eq_true rfl⟩) hW (fun H locs hW => ?_)
          refine va_mmin hx hb (hml.trans hl.1.symm) hown (hts _ q573) (hts _ q505) (hts _ q134) (hts _ q506) (Nat.le_of_ble_eq_true rfl) (Nat.le_of_ble_eq_true rfl) (Nat.le_of_ble_eq_true rfl) (Nat.le_of_ble_eq_true rfl) dX1_judge_121 ?_
          obtain ⟨σ18, e19, hs⟩ := ww_let hs
          refine ww_iast hx hb hW 29 0 (pr_st (hW.rd hgm) (Nat.le_of_ble_eq_true rfl)) rfl (vin_lit rfl) dX1_judge_124 (fun H locs hW => ?_)
          have hW : wv g L σ18 s H locs := by rw [e19]; exact hW
          have hc20 : ix5 < gN_ σ18 83 := by rw [e19]; exact hc14
          refine lv_aload_n hx hb dX1_judge_125 rfl (lv_at hl 1 rfl) ?_
          refine gf_X1_112 hx hb hts hown hW (pr_st (hW.rd hgm) (Nat.le_of_ble_eq_true rfl)) (hW.fl hgm (pr_st (hW.rd hgm) (Nat.le_of_ble_eq_true rfl)) 19 (by decide) rfl (by decide)) dX1_judge_126 ?_
          refine lv_iconst (v := 2) hx hb dX1_judge_129 (by decide) ?_
          refine lv_aload hx hb dX1_judge_130 (lv_at hl 5 rfl) ?_
          refine gf_X1_409 hx hb hts hown hW (pr_dy hc20 rfl rfl) dX1_judge_132 ?_
          refine lv_bipush (v := 30) hx hb dX1_judge_135 (by decide) ?_
          refine lv_idiv hx hb dX1_judge_137 (by decide) ?_
          refine lv_bipush (v := 12) hx hb dX1_judge_138 (by decide) ?_
          refine lv_irem hx hb dX1_judge_140 (by decide) ?_
          obtain ⟨σ21, e22, hs⟩ := ww_let hs
          refine ww_iast hx hb hW 29 0 (pr_st (hW.rd hgm) (Nat.le_of_ble_eq_true rfl)) rfl (vin_lit rfl) dX1_judge_141 (fun H locs hW => ?_)
          have hW : wv g L σ21 s H locs := by rw [e22]; exact hW
          have hc23 : ix5 < gN_ σ21 83 := by rw [e22]; exact hc20
          refine lv_aload_n hx hb dX1_judge_142 rfl (lv_at hl 1 rfl) ?_
          refine gf_X1_112 hx hb hts hown hW (pr_st (hW.rd hgm) (Nat.le_of_ble_eq_true rfl)) (hW.fl hgm (pr_st (hW.rd hgm) (Nat.le_of_ble_eq_true rfl)) 19 (by decide) rfl (by decide)) dX1_judge_143 ?_
          refine lv_iconst (v := 3) hx hb dX1_judge_146 (by decide) ?_
          refine lv_aload_n hx hb dX1_judge_147 rfl (lv_at hl 1 rfl) ?_
          refine gf_X1_414 hx hb hts hown hW (pr_st (hW.rd hgm) (Nat.le_of_ble_eq_true rfl)) dX1_judge_148 ?_
          obtain ⟨σ24, e25, hs⟩ := ww_let hs
          refine ww_iast hx hb hW 29 0 (pr_st (hW.rd hgm) (Nat.le_of_ble_eq_true rfl)) rfl (vin_lit rfl) dX1_judge_151 (fun H locs hW => ?_)
          have hW : wv g L σ24 s H locs := by rw [e25]; exact hW
          have hc26 : ix5 < gN_ σ24 83 := by rw [e25]; exact hc23
          refine lv_aload_n hx hb dX1_judge_152 rfl (lv_at hl 1 rfl) ?_
          refine gf_X1_112 hx hb hts hown hW (pr_st (hW.rd hgm) (Nat.le_of_ble_eq_true rfl)) (hW.fl hgm (pr_st (hW.rd hgm) (Nat.le_of_ble_eq_true rfl)) 19 (by decide) rfl (by decide)) dX1_judge_153 ?_
          refine lv_iconst (v := 4) hx hb dX1_judge_156 (by decide) ?_
          refine lv_aload_n hx hb dX1_judge_157 rfl (lv_at hl 1 rfl) ?_
          refine gf_X1_325 hx hb hts hown hW (pr_st (hW.rd hgm) (Nat.le_of_ble_eq_true rfl)) dX1_judge_158 ?_
          refine lv_aload hx hb dX1_judge_161 (lv_at hl 5 rfl) ?_
          refine gf_X1_409 hx hb hts hown hW (pr_dy hc26 rfl rfl) dX1_judge_163 ?_
          refine lv_isub hx hb dX1_judge_166 ?_
          obtain ⟨σ27, e28, hs⟩ := ww_let hs
          refine ww_iast hx hb hW 29 0 (pr_st (hW.rd hgm) (Nat.le_of_ble_eq_true rfl)) rfl (vin_lit rfl) dX1_judge_167 (fun H locs hW => ?_)
          have hW : wv g L σ27 s H locs := by rw [e28]; exact hW
          have hc29 : ix5 < gN_ σ27 83 := by rw [e28]; exact hc26
          refine lv_aload hx hb dX1_judge_168 (lv_at hl 5 rfl) ?_
          refine lv_aload_n hx hb dX1_judge_170 rfl (lv_at hl 1 rfl) ?_
          refine gf_X1_156 hx hb hts hown hW (pr_st (hW.rd hgm) (Nat.le_of_ble_eq_true rfl)) (hW.fl hgm (pr_st (hW.rd hgm) (Nat.le_of_ble_eq_true rfl)) 31 (by decide) rfl (by decide)) dX1_judge_171 ?_
          obtain ⟨hc30, hs⟩ := ww_chk hs
          refine gf_X1_422 hx hb hts hown hW (pr_dy hc30 rfl rfl) (hW.fl hgm (pr_dy hc30 rfl rfl) 7 (by decide) rfl (by decide)) dX1_judge_174 ?_
          refine lv_aload_n hx hb dX1_judge_177 rfl (lv_at hl 1 rfl) ?_
          refine gf_X1_112 hx hb hts hown hW (pr_st (hW.rd hgm) (Nat.le_of_ble_eq_true rfl)) (hW.fl hgm (pr_st (hW.rd hgm) (Nat.le_of_ble_eq_true rfl)) 19 (by decide) rfl (by decide)) dX1_judge_178 ?_
          obtain ⟨hc31, hs⟩ := ww_chk hs
          obtain ⟨v32, hc33, hs⟩ := ww_bnd hs
          refine fi_X1 ⟨hx, hb, hml, hown, hts⟩ hW (pr_dy hc31 rfl rfl) (c_fv g hgm l L 410 σ27 (gP_ σ27 87 7 (gP_ σ27 1 31 0)) _ hc33) ⟨(Nat.le_of_ble_eq_true rfl), (Nat.le_of_ble_eq_true rfl)⟩ hl.1 (lv_room (Nat.le_of_ble_eq_true rfl)) dX1_judge_181 ⟨Nat.le_of_ble_eq_true rfl, Nat.le_of_ble_eq_true rfl⟩ (fun H locs hW => ?_)
          refine lv_iconst (v := 0) hx hb dX1_judge_186 (by decide) ?_
          refine va_mmax hx hb (hml.trans hl.1.symm) hown (hts _ q603) (hts _ q604) (hts _ q134) (hts _ q605) (Nat.le_of_ble_eq_true rfl) (Nat.le_of_ble_eq_true rfl) (Nat.le_of_ble_eq_true rfl) (Nat.le_of_ble_eq_true rfl) dX1_judge_187 ?_
          refine lv_aload_n hx hb dX1_judge_190 rfl (lv_at hl 1 rfl) ?_
          refine gf_X1_156 hx hb hts hown hW (pr_st (hW.rd hgm) (Nat.le_of_ble_eq_true rfl)) (hW.fl hgm (pr_st (hW.rd hgm) (Nat.le_of_ble_eq_true rfl)) 31 (by decide) rfl (by decide)) dX1_judge_191 ?_
          refine gf_X1_431 hx hb hts hown hW (pr_dy hc30 rfl rfl) dX1_judge_194 ?_
          refine va_mmin hx hb (hml.trans hl.1.symm) hown (hts _ q573) (hts _ q505) (hts _ q134) (hts _ q506) (Nat.le_of_ble_eq_true rfl) (Nat.le_of_ble_eq_true rfl) (Nat.le_of_ble_eq_true rfl) (Nat.le_of_ble_eq_true rfl) dX1_judge_197 ?_
          refine lv_aload_n hx hb dX1_judge_200 rfl (lv_at hl 1 rfl) ?_
          refine gf_X1_414 hx hb hts hown hW (pr_st (hW.rd hgm) (Nat.le_of_ble_eq_true rfl)) dX1_judge_201 ?_
          refine va_mmin hx hb (hml.trans hl.1.symm) hown (hts _ q573) (hts _ q505) (hts _ q134) (hts _ q506) (Nat.le_of_ble_eq_true rfl) (Nat.le_of_ble_eq_true rfl) (Nat.le_of_ble_eq_true rfl) (Nat.le_of_ble_eq_true rfl) dX1_judge_204 ?_
          obtain ⟨σ34, e35, hs⟩ := ww_let hs
          refine pf_X1_416 hx hb hts hown hW (pr_dy hc29 rfl rfl) dX1_judge_207 (fun H locs hW => ?_)
          have hW : wv g L σ34 s H locs := by rw [e35]; exact hW
          have hc36 : ix5 < gN_ σ34 83 := by rw [e35]; exact hc29
          have hc37 : (gP_ σ27 1 31 0) < gN_ σ34 87 := by rw [e35]; exact hc30
          have hc38 : (gP_ σ27 87 7 (gP_ σ27 1 31 0)) < gN_ σ34 91 := by rw [e35]; exact hc31
          refine lv_aload_n hx hb dX1_judge_210 rfl (lv_at hl 1 rfl) ?_
          refine lv_dup hx hb dX1_judge_211 rfl ?_
          refine gf_X1_414 hx hb hts hown hW (pr_st (hW.rd hgm) (Nat.le_of_ble_eq_true rfl)) dX1_judge_212 ?_
          refine lv_aload hx hb dX1_judge_215 (lv_at hl 5 rfl) ?_
          refine gf_X1_416 hx hb hts hown hW (pr_dy hc36 rfl rfl) dX1_judge_217 ?_
          refine lv_isub hx hb dX1_judge_220 ?_
          obtain ⟨σ39, e40, hs⟩ := ww_let hs
          refine pf_X1_414 hx hb hts hown hW (pr_st (hW.rd hgm) (Nat.le_of_ble_eq_true rfl)) dX1_judge_221 (fun H locs hW => ?_)
          have hW : wv g L σ39 s H locs := by rw [e40]; exact hW
          have hc41 : ix5 < gN_ σ39 83 := by rw [e40]; exact hc36
          have hc42 : (gP_ σ27 1 31 0) < gN_ σ39 87 := by rw [e40]; exact hc37
          have hc43 : (gP_ σ27 87 7 (gP_ σ27 1 31 0)) < gN_ σ39 91 := by rw [e40]; exact hc38
          refine lv_aload hx hb dX1_judge_224 (lv_at hl 5 rfl) ?_
          refine gf_X1_416 hx hb hts hown hW (pr_dy hc41 rfl rfl) dX1_judge_226 ?_
          have hs := ww_S hs
          exact wx_i hx hb hr hlocks hW (congrArg Prod.fst hs) (congrArg Prod.snd hs) (Nat.zero_le _) (Nat.zero_le _) dX1_judge_229
        · have hs := ww_F hs hc8
          refine lv_bipush (v := (-2)) hx hb dX1_judge_75 (by decide) ?_
          have hs := ww_S hs
          exact wx_i hx hb hr hlocks hW (congrArg Prod.fst hs) (congrArg Prod.snd hs) (Nat.zero_le _) (Nat.zero_le _) dX1_judge_77
      · have hs := ww_F hs hc7
        refine lv_iconst (v := (-1)) hx hb dX1_judge_58 (by decide) ?_
        have hs := ww_S hs
        exact wx_i hx hb hr hlocks hW (congrArg Prod.fst hs) (congrArg Prod.snd hs) (Nat.zero_le _) (Nat.zero_le _) dX1_judge_59
  have hL41 : ∀ (σ : st_T) (x2 : Int32) (x3 : Int32) (x4 : Int32) (ix5 : Nat) (H : Heap) (locs : List Loc) (ls : Array Slot), wv g L σ s H locs → lv_has ls 7 [(0, .ref (L 1 0)), (2, .int x2), (3, .int x3), (4, .int x4), (5, .ref (L 83 ix5))] → (m_X1_judge_L41 m_X1_judge_L46) σ x2 x3 x4 ix5 = some (o_, σ_) → W p l e (wrm 1233 33710 (xc o_) (xs o_)) s m args below meth c H locs 0 0 (vx_MQ below (wXi g L o_ σ_) (wX g o_ σ_ L) args s (xc o_) (xs o_) (fun q => gz g ≤ q)) (F0 m 41 ls []) := by
    intro σ x2 x3 x4 ix5 H locs ls hW hl hs
    unfold m_X1_judge_L41 at hs
    refine lv_iconst (v := 1) hx hb dX1_judge_41 (by decide) ?_
    refine lv_goto (tgt := 46) hx hb dX1_judge_42 (by decide) ?_
    exact hL46 σ x2 x3 x4 ix5 (1 : Int32) _ _ ls hW (lv_sub hl [0, 1, 2, 3, 4] rfl) hs
  refine lv_aload_n hx hb dX1_judge_0 rfl (lv_at hl 0 rfl) ?_
  refine lv_iload_n hx hb dX1_judge_1 rfl (lv_at hl 1 rfl) ?_
  obtain ⟨o46, hc44, hs⟩ := ww_bnd hs
  rcases o46 with k47 | v48
  · have hs := ww_sL hs
    have hs := ww_S hs
    have e1 : o_ = .inl k47 := congrArg Prod.fst hs
    have e2 : σ_ = σ := congrArg Prod.snd hs
    subst e1
    exact wx_prop (vx_runV (As := [.int a1]) (rest := []) ⟨hx, hb, hml, hown, hts⟩ (c_X1_claimAt g hgm l L σ a1 hst _ hc44) (cwV 1 hts (lw_V q1382 q1384 qs33 q111 q1385) rfl rfl rfl hd_X1_claimAt ⟨(Nat.le_of_ble_eq_true rfl), (Nat.le_of_ble_eq_true rfl)⟩) (ww_preV hW (pr_st (hW.rd hgm) (Nat.le_of_ble_eq_true rfl)) (obv_0 rfl) rfl) rfl rfl hl.1 rfl (lv_room (Nat.le_of_ble_eq_true rfl)) dX1_judge_2 ⟨Nat.le_of_ble_eq_true rfl, Nat.le_of_ble_eq_true rfl⟩) no_r hW hlocks hout rfl e2 (Nat.le_of_ble_eq_true rfl) (Nat.le_of_ble_eq_true rfl)
  · have hs := ww_sR hs
    refine ww_xr0 (vx_runV (As := [.int a1]) (rest := []) ⟨hx, hb, hml, hown, hts⟩ (c_X1_claimAt g hgm l L σ a1 hst _ hc44) (cwV 1 hts (lw_V q1382 q1384 qs33 q111 q1385) rfl rfl rfl hd_X1_claimAt ⟨(Nat.le_of_ble_eq_true rfl), (Nat.le_of_ble_eq_true rfl)⟩) (ww_preV hW (pr_st (hW.rd hgm) (Nat.le_of_ble_eq_true rfl)) (obv_0 rfl) rfl) rfl rfl hl.1 rfl (lv_room (Nat.le_of_ble_eq_true rfl)) dX1_judge_2 ⟨Nat.zero_le _, Nat.zero_le _⟩) hW (fun H locs hW => ?_)
    refine lv_astore (lv' := [(5, .ref (L 83 v48)), (0, .ref (L 1 0)), (1, .int a1), (2, .int a2), (3, .int a3), (4, .int a4)]) hx hb dX1_judge_5 hl (by decide) rfl (fun ls hl => ?_)
    refine lv_iload_n hx hb dX1_judge_7 rfl (lv_at hl 3 rfl) ?_
    refine lv_iconst (v := 0) hx hb dX1_judge_8 (by decide) ?_
    refine lv_sipush (v := 10000) hx hb dX1_judge_9 (by decide) ?_
    obtain ⟨v51, hc49, hs⟩ := ww_bnd hs
    refine ww_ci (va_runS (As := [.int a2, .int (0 : Int32), .int (10000 : Int32)]) (rest := []) ⟨hx, hb, hml, hown, hts⟩ (c_X1_in g hgm l L σ a2 (0 : Int32) (10000 : Int32) _ hc49) (va_cwS 3 hts (lw_S q824 q825 q111 q826) rfl rfl rfl hd_X1_in.2 ⟨(Nat.le_of_ble_eq_true rfl), (Nat.le_of_ble_eq_true rfl)⟩) (ww_preS hW) rfl rfl hl.1 rfl (lv_room (Nat.le_of_ble_eq_true rfl)) dX1_judge_12 ⟨Nat.le_of_ble_eq_true rfl, Nat.le_of_ble_eq_true rfl⟩) hW (fun H locs hW => ?_)
    refine lv_if_eq (tgt := 41) hx hb dX1_judge_15 (by decide) (fun hc52 => ?_) (fun hc52 => ?_)
    · have hs := ww_T hs hc52
      exact hL41 σ a2 a3 a4 v48 _ _ ls hW (lv_sub hl [1, 3, 4, 5, 0] rfl) hs
    · have hs := ww_F hs hc52
      refine lv_iload_n hx hb dX1_judge_18 rfl (lv_at hl 4 rfl) ?_
      refine lv_iconst (v := 0) hx hb dX1_judge_19 (by decide) ?_
      refine lv_sipush (v := 10000) hx hb dX1_judge_20 (by decide) ?_
      obtain ⟨v55, hc53, hs⟩ := ww_bnd hs
      refine ww_ci (va_runS (As := [.int a3, .int (0 : Int32), .int (10000 : Int32)]) (rest := []) ⟨hx, hb, hml, hown, hts⟩ (c_X1_in g hgm l L σ a3 (0 : Int32) (10000 : Int32) _ hc53) (va_cwS 3 hts (lw_S q824 q825 q111 q826) rfl rfl rfl hd_X1_in.2 ⟨(Nat.le_of_ble_eq_true rfl), (Nat.le_of_ble_eq_true rfl)⟩) (ww_preS hW) rfl rfl hl.1 rfl (lv_room (Nat.le_of_ble_eq_true rfl)) dX1_judge_23 ⟨Nat.le_of_ble_eq_true rfl, Nat.le_of_ble_eq_true rfl⟩) hW (fun H locs hW => ?_)
      refine lv_if_eq (tgt := 41) hx hb dX1_judge_26 (by decide) (fun hc56 => ?_) (fun hc56 => ?_)
      · have hs := ww_T hs hc56
        exact hL41 σ a2 a3 a4 v48 _ _ ls hW (lv_sub hl [1, 3, 4, 5, 0] rfl) hs
      · have hs := ww_F hs hc56
        refine lv_iload hx hb dX1_judge_29 (lv_at hl 5 rfl) ?_
        refine lv_iconst (v := 0) hx hb dX1_judge_31 (by decide) ?_
        refine lv_sipush (v := 10000) hx hb dX1_judge_32 (by decide) ?_
        obtain ⟨v59, hc57, hs⟩ := ww_bnd hs
        refine ww_ci (va_runS (As := [.int a4, .int (0 : Int32), .int (10000 : Int32)]) (rest := []) ⟨hx, hb, hml, hown, hts⟩ (c_X1_in g hgm l L σ a4 (0 : Int32) (10000 : Int32) _ hc57) (va_cwS 3 hts (lw_S q824 q825 q111 q826) rfl rfl rfl hd_X1_in.2 ⟨(Nat.le_of_ble_eq_true rfl), (Nat.le_of_ble_eq_true rfl)⟩) (ww_preS hW) rfl rfl hl.1 rfl (lv_room (Nat.le_of_ble_eq_true rfl)) dX1_judge_35 ⟨Nat.le_of_ble_eq_true rfl, Nat.le_of_ble_eq_true rfl⟩) hW (fun H locs hW => ?_)
        refine lv_if_ne (tgt := 45) hx hb dX1_judge_38 (by decide) (fun hc60 => ?_) (fun hc60 => ?_)
        · have hs := ww_F hs hc60
          refine lv_iconst (v := 0) hx hb dX1_judge_45 (by decide) ?_
          exact hL46 σ a2 a3 a4 v48 (0 : Int32) _ _ ls hW (lv_sub hl [1, 3, 4, 5, 0] rfl) hs
        · have hs := ww_T hs hc60
          exact hL41 σ a2 a3 a4 v48 _ _ ls hW (lv_sub hl [1, 3, 4, 5, 0] rfl) hs
