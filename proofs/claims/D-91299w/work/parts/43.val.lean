set_option maxRecDepth 100000
section
variable {p : Program} {l : Launch} {e : Env} {R : Room} {s : State} {m : MethodId} {args : Array Value} {below : List Frame} {meth : Method} {c : Code} {H : Heap} {locs : List Loc} {cells slots : Nat} {Q : State → Prop} {cc : ByteArray} {pc : Nat} {ls : Array Slot} {rest : List Value} {g : wg_T} {L : ly_T} {σ : st_T}
theorem gf_X13_7 (hexec : p.tables.exec = Jvm.exec) (hb : c.code = cc) (hts : ∀ w ∈ lw_all, w.before args s = true) (hown : s.vm.findClass RX13 = some m.cls) (hW : wv g L σ s H locs) {i : Nat} (hpr : pr σ 91 i) (htag : gP_ σ 91 199 i = 6) (hfl : ¬ gP_ σ 91 (200 + 0) i = 0) (hdg : decode cc pc = .ok (.getfield 7, 3)) (kk : W p l e R s m args below meth c H locs cells slots Q (F0 m (pc + 3) ls (.ref (L 91 (gP_ σ 91 0 i)) :: rest))) : W p l e R s m args below meth c H locs cells slots Q (F0 m pc ls (.ref (L 91 i) :: rest)) := ww_get (d := (3, 91, 0)) hexec hb hts hown hW 91 i 0 hpr (obv_6 rfl htag) rfl in_X13 rfl (Nat.le_of_ble_eq_true rfl) (hts _ q1112) (fun _ h => h) hdg (by rw [fv_p (fun z => by cases z) hfl]; exact kk)
theorem gf_X13_13 (hexec : p.tables.exec = Jvm.exec) (hb : c.code = cc) (hts : ∀ w ∈ lw_all, w.before args s = true) (hown : s.vm.findClass RX13 = some m.cls) (hW : wv g L σ s H locs) {i : Nat} (hpr : pr σ 91 i) (htag : gP_ σ 91 199 i = 6) (hfl : ¬ gP_ σ 91 (200 + 1) i = 0) (hdg : decode cc pc = .ok (.getfield 13, 3)) (kk : W p l e R s m args below meth c H locs cells slots Q (F0 m (pc + 3) ls (.ref (L 91 (gP_ σ 91 1 i)) :: rest))) : W p l e R s m args below meth c H locs cells slots Q (F0 m pc ls (.ref (L 91 i) :: rest)) := ww_get (d := (3, 91, 0)) hexec hb hts hown hW 91 i 1 hpr (obv_6 rfl htag) rfl in_X13 rfl (Nat.le_of_ble_eq_true rfl) (hts _ q1113) (fun _ h => h) hdg (by rw [fv_p (fun z => by cases z) hfl]; exact kk)
theorem gf_X13_16 (hexec : p.tables.exec = Jvm.exec) (hb : c.code = cc) (hts : ∀ w ∈ lw_all, w.before args s = true) (hown : s.vm.findClass RX13 = some m.cls) (hW : wv g L σ s H locs) {i : Nat} (hpr : pr σ 91 i) (htag : gP_ σ 91 199 i = 6) (hfl : ¬ gP_ σ 91 (200 + 2) i = 0) (hdg : decode cc pc = .ok (.getfield 16, 3)) (kk : W p l e R s m args below meth c H locs cells slots Q (F0 m (pc + 3) ls (.ref (L 91 (gP_ σ 91 2 i)) :: rest))) : W p l e R s m args below meth c H locs cells slots Q (F0 m pc ls (.ref (L 91 i) :: rest)) := ww_get (d := (3, 91, 0)) hexec hb hts hown hW 91 i 2 hpr (obv_6 rfl htag) rfl in_X13 rfl (Nat.le_of_ble_eq_true rfl) (hts _ q1114) (fun _ h => h) hdg (by rw [fv_p (fun z => by cases z) hfl]; exact kk)
theorem gf_X6_7 (hexec : p.tables.exec = Jvm.exec) (hb : c.code = cc) (hts : ∀ w ∈ lw_all, w.before args s = true) (hown : s.vm.findClass RX6 = some m.cls) (hW : wv g L σ s H locs) {i : Nat} (hpr : pr σ 91 i) (htag : gP_ σ 91 199 i = 2 ∨ gP_ σ 91 199 i = 3 ∨ gP_ σ 91 199 i = 4 ∨ gP_ σ 91 199 i = 5) (hfl : ¬ gP_ σ 91 (200 + 0) i = 0) (hdg : decode cc pc = .ok (.getfield 7, 3)) (kk : W p l e R s m args below meth c H locs cells slots Q (F0 m (pc + 3) ls (.ref (L 91 (gP_ σ 91 0 i)) :: rest))) : W p l e R s m args below meth c H locs cells slots Q (F0 m pc ls (.ref (L 91 i) :: rest)) := by
  rcases htag with h | h | h | h
  · exact ww_get (d := (3, 91, 0)) hexec hb hts hown hW 91 i 0 hpr (obv_6 rfl h) rfl in_X7 rfl (Nat.le_of_ble_eq_true rfl) (hts _ q305) (fun _ h => h) hdg (by rw [fv_p (fun z => by cases z) hfl]; exact kk)
  · exact ww_get (d := (3, 91, 0)) hexec hb hts hown hW 91 i 0 hpr (obv_6 rfl h) rfl in_X14 rfl (Nat.le_of_ble_eq_true rfl) (hts _ q305) (fun _ h => h) hdg (by rw [fv_p (fun z => by cases z) hfl]; exact kk)
  · exact ww_get (d := (3, 91, 0)) hexec hb hts hown hW 91 i 0 hpr (obv_6 rfl h) rfl in_X15 rfl (Nat.le_of_ble_eq_true rfl) (hts _ q305) (fun _ h => h) hdg (by rw [fv_p (fun z => by cases z) hfl]; exact kk)
  · exact ww_get (d := (3, 91, 0)) hexec hb hts hown hW 91 i 0 hpr (obv_6 rfl h) rfl in_X12 rfl (Nat.le_of_ble_eq_true rfl) (hts _ q305) (fun _ h => h) hdg (by rw [fv_p (fun z => by cases z) hfl]; exact kk)
theorem gf_X6_13 (hexec : p.tables.exec = Jvm.exec) (hb : c.code = cc) (hts : ∀ w ∈ lw_all, w.before args s = true) (hown : s.vm.findClass RX6 = some m.cls) (hW : wv g L σ s H locs) {i : Nat} (hpr : pr σ 91 i) (htag : gP_ σ 91 199 i = 2 ∨ gP_ σ 91 199 i = 3 ∨ gP_ σ 91 199 i = 4 ∨ gP_ σ 91 199 i = 5) (hfl : ¬ gP_ σ 91 (200 + 1) i = 0) (hdg : decode cc pc = .ok (.getfield 13, 3)) (kk : W p l e R s m args below meth c H locs cells slots Q (F0 m (pc + 3) ls (.ref (L 91 (gP_ σ 91 1 i)) :: rest))) : W p l e R s m args below meth c H locs cells slots Q (F0 m pc ls (.ref (L 91 i) :: rest)) := by
  rcases htag with h | h | h | h
  · exact ww_get (d := (3, 91, 0)) hexec hb hts hown hW 91 i 1 hpr (obv_6 rfl h) rfl in_X7 rfl (Nat.le_of_ble_eq_true rfl) (hts _ q306) (fun _ h => h) hdg (by rw [fv_p (fun z => by cases z) hfl]; exact kk)
  · exact ww_get (d := (3, 91, 0)) hexec hb hts hown hW 91 i 1 hpr (obv_6 rfl h) rfl in_X14 rfl (Nat.le_of_ble_eq_true rfl) (hts _ q306) (fun _ h => h) hdg (by rw [fv_p (fun z => by cases z) hfl]; exact kk)
  · exact ww_get (d := (3, 91, 0)) hexec hb hts hown hW 91 i 1 hpr (obv_6 rfl h) rfl in_X15 rfl (Nat.le_of_ble_eq_true rfl) (hts _ q306) (fun _ h => h) hdg (by rw [fv_p (fun z => by cases z) hfl]; exact kk)
  · exact ww_get (d := (3, 91, 0)) hexec hb hts hown hW 91 i 1 hpr (obv_6 rfl h) rfl in_X12 rfl (Nat.le_of_ble_eq_true rfl) (hts _ q306) (fun _ h => h) hdg (by rw [fv_p (fun z => by cases z) hfl]; exact kk)
end
theorem hd_X6_value : yX6_value.cls = RX6 ∧ yX6_value.cls ≠ "java/lang/invoke/MethodHandle" ∧ yX6_value.cls ≠ "java/lang/invoke/VarHandle" ∧ (parseMethodDescriptor yX6_value.desc).map (fun d => d.parameters.length) = some 1 := by decide +kernel
theorem hd_X13_value : yX13_value.cls = RX13 ∧ yX13_value.cls ≠ "java/lang/invoke/MethodHandle" ∧ yX13_value.cls ≠ "java/lang/invoke/VarHandle" ∧ (parseMethodDescriptor yX13_value.desc).map (fun d => d.parameters.length) = some 1 := by decide +kernel
def m_X6_value (rec : st_T → Nat → Option Int32) (σ : st_T) (i0 : Nat) : Option Int32 := if i0 < gN_ σ 91 then if gP_ σ 91 199 i0 = 2 ∨ gP_ σ 91 199 i0 = 3 ∨ gP_ σ 91 199 i0 = 4 ∨ gP_ σ 91 199 i0 = 5 then if ¬ gP_ σ 91 (200 + 0) i0 = 0 then if (gP_ σ 91 0 i0) < gN_ σ 91 then (rec σ (gP_ σ 91 0 i0)).bind fun v5 => if ¬ gP_ σ 91 (200 + 1) i0 = 0 then if (gP_ σ 91 1 i0) < gN_ σ 91 then (rec σ (gP_ σ 91 1 i0)).bind fun v9 => (m_of σ i0 v5 v9).bind fun v11 => some v11 else none else none else none else none else none else none
def m_X13_value_L37 (rec : st_T → Nat → Option Int32) (i0 : Nat) (σ : st_T) (t0 : Int32) : Option Int32 := some t0
def m_X13_value (rec : st_T → Nat → Option Int32) (σ : st_T) (i0 : Nat) : Option Int32 := if i0 < gN_ σ 91 then if gP_ σ 91 199 i0 = 6 then if ¬ gP_ σ 91 (200 + 0) i0 = 0 then if (gP_ σ 91 0 i0) < gN_ σ 91 then (rec σ (gP_ σ 91 0 i0)).bind fun v5 => if v5 = (1 : Int32) then if ¬ gP_ σ 91 (200 + 1) i0 = 0 then if (gP_ σ 91 1 i0) < gN_ σ 91 then (rec σ (gP_ σ 91 1 i0)).bind fun v14 => (m_X13_value_L37 rec i0) σ v14 else none else none else if ¬ gP_ σ 91 (200 + 2) i0 = 0 then if (gP_ σ 91 2 i0) < gN_ σ 91 then (rec σ (gP_ σ 91 2 i0)).bind fun v10 => (m_X13_value_L37 rec i0) σ v10 else none else none else none else none else none else none
set_option maxHeartbeats 4000000 in
theorem c_X6_value (g : wg_T) (hgm : gm g = true) (l : Launch) (L : ly_T) (rec : st_T → Nat → Option Int32) (fr lo : Nat) (hrec : ∀ (σ : st_T) (i0 : Nat) (r_ : Int32), rec σ i0 = some r_ → FV g l i0 L σ r_ fr lo) (σ : st_T) (i0 : Nat) (r_ : Int32) (hs : m_X6_value rec σ i0 = some r_) : CI g l yX6_value (ws_ yX6_value cX6_value 3 (some .int)) (fr + 3) (lo + 82) 0 0 [.ref (L 91 i0), .ref (L 29 0)] L σ r_ σ := by
  refine wbody.met (by decide) (Nat.le_of_ble_eq_true rfl) ?_
  intro p e s m args below meth c ls hx hb hr hml hlocks hts hown hnm hW hl
  have hown : s.vm.findClass RX6 = some m.cls := hown
  have hl : lv_has ls 3 [(0, .ref (L 91 i0)), (1, .ref (L 29 0))] := hl
  unfold m_X6_value at hs
  refine lv_aload_n hx hb dX6_value_0 rfl (lv_at hl 0 rfl) ?_
  obtain ⟨hc1, hs⟩ := ww_chk hs
  obtain ⟨hc2, hs⟩ := ww_chk hs
  obtain ⟨hc3, hs⟩ := ww_chk hs
  refine gf_X6_7 hx hb hts hown hW (pr_dy hc1 rfl rfl) hc2 hc3 dX6_value_1 ?_
  refine lv_aload_n hx hb dX6_value_4 rfl (lv_at hl 1 rfl) ?_
  obtain ⟨hc4, hs⟩ := ww_chk hs
  obtain ⟨v5, hc6, hs⟩ := ww_bnd hs
  refine fi_X6 ⟨hx, hb, hml, hown, hts⟩ hW (pr_dy hc4 rfl rfl) (hrec σ (gP_ σ 91 0 i0) _ hc6) ⟨(by simp only [wrm]; omega), (by simp only [wrm]; omega)⟩ hl.1 (lv_room (Nat.le_of_ble_eq_true rfl)) dX6_value_5 ⟨Nat.le_of_ble_eq_true rfl, Nat.le_of_ble_eq_true rfl⟩ (fun H locs hW => ?_)
  refine lv_istore_n (lv' := [(2, .int v5), (0, .ref (L 91 i0)), (1, .ref (L 29 0))]) hx hb dX6_value_10 rfl hl (by decide) rfl (fun ls hl => ?_)
  refine lv_aload_n hx hb dX6_value_11 rfl (lv_at hl 1 rfl) ?_
  refine lv_iload_n hx hb dX6_value_12 rfl (lv_at hl 0 rfl) ?_
  refine lv_aload_n hx hb dX6_value_13 rfl (lv_at hl 1 rfl) ?_
  obtain ⟨hc7, hs⟩ := ww_chk hs
  refine gf_X6_13 hx hb hts hown hW (pr_dy hc1 rfl rfl) hc2 hc7 dX6_value_14 ?_
  refine lv_aload_n hx hb dX6_value_17 rfl (lv_at hl 2 rfl) ?_
  obtain ⟨hc8, hs⟩ := ww_chk hs
  obtain ⟨v9, hc10, hs⟩ := ww_bnd hs
  refine fi_X6 ⟨hx, hb, hml, hown, hts⟩ hW (pr_dy hc8 rfl rfl) (hrec σ (gP_ σ 91 1 i0) _ hc10) ⟨(by simp only [wrm]; omega), (by simp only [wrm]; omega)⟩ hl.1 (lv_room (Nat.le_of_ble_eq_true rfl)) dX6_value_18 ⟨Nat.le_of_ble_eq_true rfl, Nat.le_of_ble_eq_true rfl⟩ (fun H locs hW => ?_)
  obtain ⟨v11, hc12, hs⟩ := ww_bnd hs
  refine oi_X6 ⟨hx, hb, hml, hown, hts⟩ hW (pr_dy hc1 rfl rfl) (c_of g hgm l L σ i0 v5 v9 _ hc12) ⟨(by simp only [wrm]; omega), (by simp only [wrm]; omega)⟩ hl.1 (lv_room (Nat.le_of_ble_eq_true rfl)) dX6_value_23 ⟨Nat.le_of_ble_eq_true rfl, Nat.le_of_ble_eq_true rfl⟩ (fun H locs hW => ?_)
  have hs := ww_S hs
  exact we_i hx hb hr hlocks hW hs rfl (Nat.le_of_ble_eq_true rfl) (Nat.le_of_ble_eq_true rfl) dX6_value_26
set_option maxHeartbeats 4000000 in
theorem c_X13_value (g : wg_T) (hgm : gm g = true) (l : Launch) (L : ly_T) (rec : st_T → Nat → Option Int32) (fr lo : Nat) (hrec : ∀ (σ : st_T) (i0 : Nat) (r_ : Int32), rec σ i0 = some r_ → FV g l i0 L σ r_ fr lo) (σ : st_T) (i0 : Nat) (r_ : Int32) (hs : m_X13_value rec σ i0 = some r_) : CI g l yX13_value (ws_ yX13_value cX13_value 2 (some .int)) (fr + 2) (lo + 60) 0 0 [.ref (L 91 i0), .ref (L 29 0)] L σ r_ σ := by
  refine wbody.met (by decide) (Nat.le_of_ble_eq_true rfl) ?_
  intro p e s m args below meth c ls hx hb hr hml hlocks hts hown hnm hW hl
  have hown : s.vm.findClass RX13 = some m.cls := hown
  have hl : lv_has ls 2 [(0, .ref (L 91 i0)), (1, .ref (L 29 0))] := hl
  unfold m_X13_value at hs
  have hL37 : ∀ (σ : st_T) (t0 : Int32) (H : Heap) (locs : List Loc) (ls : Array Slot), wv g L σ s H locs → lv_has ls 2 [] → (m_X13_value_L37 rec i0) σ t0 = some r_ → W p l e (wrm (fr + 2) (lo + 60) 0 0) s m args below meth c H locs 0 0 (MQ below (wQi g L r_ σ) args s 0 0 (fun q => gz g ≤ q)) (F0 m 37 ls [.int t0]) := by
    intro σ t0 H locs ls hW hl hs
    unfold m_X13_value_L37 at hs
    have hs := ww_S hs
    exact we_i hx hb hr hlocks hW hs rfl (Nat.le_of_ble_eq_true rfl) (Nat.le_of_ble_eq_true rfl) dX13_value_37
  refine lv_aload_n hx hb dX13_value_0 rfl (lv_at hl 0 rfl) ?_
  obtain ⟨hc1, hs⟩ := ww_chk hs
  obtain ⟨hc2, hs⟩ := ww_chk hs
  obtain ⟨hc3, hs⟩ := ww_chk hs
  refine gf_X13_7 hx hb hts hown hW (pr_dy hc1 rfl rfl) hc2 hc3 dX13_value_1 ?_
  refine lv_aload_n hx hb dX13_value_4 rfl (lv_at hl 1 rfl) ?_
  obtain ⟨hc4, hs⟩ := ww_chk hs
  obtain ⟨v5, hc6, hs⟩ := ww_bnd hs
  refine fi_X13 ⟨hx, hb, hml, hown, hts⟩ hW (pr_dy hc4 rfl rfl) (hrec σ (gP_ σ 91 0 i0) _ hc6) ⟨(by simp only [wrm]; omega), (by simp only [wrm]; omega)⟩ hl.1 (lv_room (Nat.le_of_ble_eq_true rfl)) dX13_value_5 ⟨Nat.le_of_ble_eq_true rfl, Nat.le_of_ble_eq_true rfl⟩ (fun H locs hW => ?_)
  refine lv_iconst (v := 1) hx hb dX13_value_10 (by decide) ?_
  refine lv_icmp_ne (tgt := 27) hx hb dX13_value_11 (by decide) (fun hc7 => ?_) (fun hc7 => ?_)
  · have hs := ww_F hs hc7
    refine lv_aload_n hx hb dX13_value_27 rfl (lv_at hl 0 rfl) ?_
    obtain ⟨hc8, hs⟩ := ww_chk hs
    refine gf_X13_16 hx hb hts hown hW (pr_dy hc1 rfl rfl) hc2 hc8 dX13_value_28 ?_
    refine lv_aload_n hx hb dX13_value_31 rfl (lv_at hl 1 rfl) ?_
    obtain ⟨hc9, hs⟩ := ww_chk hs
    obtain ⟨v10, hc11, hs⟩ := ww_bnd hs
    refine fi_X13 ⟨hx, hb, hml, hown, hts⟩ hW (pr_dy hc9 rfl rfl) (hrec σ (gP_ σ 91 2 i0) _ hc11) ⟨(by simp only [wrm]; omega), (by simp only [wrm]; omega)⟩ hl.1 (lv_room (Nat.le_of_ble_eq_true rfl)) dX13_value_32 ⟨Nat.le_of_ble_eq_true rfl, Nat.le_of_ble_eq_true rfl⟩ (fun H locs hW => ?_)
    exact hL37 σ v10 _ _ ls hW (lv_sub hl [] rfl) hs
  · have hs := ww_T hs hc7
    refine lv_aload_n hx hb dX13_value_14 rfl (lv_at hl 0 rfl) ?_
    obtain ⟨hc12, hs⟩ := ww_chk hs
    refine gf_X13_13 hx hb hts hown hW (pr_dy hc1 rfl rfl) hc2 hc12 dX13_value_15 ?_
    refine lv_aload_n hx hb dX13_value_18 rfl (lv_at hl 1 rfl) ?_
    obtain ⟨hc13, hs⟩ := ww_chk hs
    obtain ⟨v14, hc15, hs⟩ := ww_bnd hs
    refine fi_X13 ⟨hx, hb, hml, hown, hts⟩ hW (pr_dy hc13 rfl rfl) (hrec σ (gP_ σ 91 1 i0) _ hc15) ⟨(by simp only [wrm]; omega), (by simp only [wrm]; omega)⟩ hl.1 (lv_room (Nat.le_of_ble_eq_true rfl)) dX13_value_19 ⟨Nat.le_of_ble_eq_true rfl, Nat.le_of_ble_eq_true rfl⟩ (fun H locs hW => ?_)
    refine lv_goto (tgt := 37) hx hb dX13_value_24 (by decide) ?_
    exact hL37 σ v14 _ _ ls hW (lv_sub hl [] rfl) hs
def m_fv : Nat → st_T → Nat → Option Int32
  | 0, _, _ => none
  | n + 1, σ, i => if gP_ σ 91 199 i = 0 then m_X9_value σ i else if gP_ σ 91 199 i = 1 then m_X8_value σ i else if gP_ σ 91 199 i = 6 then m_X13_value (m_fv n) σ i else if gP_ σ 91 199 i = 2 ∨ gP_ σ 91 199 i = 3 ∨ gP_ σ 91 199 i = 4 ∨ gP_ σ 91 199 i = 5 then m_X6_value (m_fv n) σ i else none
theorem c_fv (g : wg_T) (hgm : gm g = true) (l : Launch) (L : ly_T) : ∀ (nn : Nat) (σ : st_T) (i : Nat) (r : Int32), m_fv nn σ i = some r → FV g l i L σ r (2 + 3 * nn) (60 + 82 * nn) := by
  intro nn
  induction nn with
  | zero => intro σ i r h; rw [m_fv] at h; cases h
  | succ nn ih =>
    intro σ i r h
    rw [m_fv] at h
    by_cases h0 : gP_ σ 91 199 i = 0
    · exact ⟨0, _, _, by omega, by omega, by decide, h0, c_X9_value g hgm l L σ i r (ww_T h h0)⟩
    have h := ww_F h h0
    by_cases h1 : gP_ σ 91 199 i = 1
    · exact ⟨1, _, _, by omega, by omega, by decide, h1, c_X8_value g hgm l L σ i r (ww_T h h1)⟩
    have h := ww_F h h1
    by_cases h6 : gP_ σ 91 199 i = 6
    · exact ⟨6, _, _, by omega, by omega, by decide, h6, c_X13_value g hgm l L (m_fv nn) (2 + 3 * nn) (60 + 82 * nn) ih σ i r (ww_T h h6)⟩
    have h := ww_F h h6
    by_cases h2 : gP_ σ 91 199 i = 2 ∨ gP_ σ 91 199 i = 3 ∨ gP_ σ 91 199 i = 4 ∨ gP_ σ 91 199 i = 5
    · have c := c_X6_value g hgm l L (m_fv nn) (2 + 3 * nn) (60 + 82 * nn) ih σ i r (ww_T h h2)
      rcases h2 with h2 | h2 | h2 | h2
      · exact ⟨2, _, _, by omega, by omega, by decide, h2, c⟩
      · exact ⟨3, _, _, by omega, by omega, by decide, h2, c⟩
      · exact ⟨4, _, _, by omega, by omega, by decide, h2, c⟩
      · exact ⟨5, _, _, by omega, by omega, by decide, h2, c⟩
    rw [if_neg h2] at h; cases h
