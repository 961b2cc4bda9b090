set_option maxRecDepth 100000
section
variable {p : Program} {l : Launch} {e : Env} {R : Room} {s : State} {m : MethodId} {args : Array Value} {below : List Frame} {meth : Method} {c : Code} {H : Heap} {locs : List Loc} {cells slots : Nat} {Q : State → Prop} {cc : ByteArray} {pc : Nat} {ls : Array Slot} {rest : List Value} {g : wg_T} {L : ly_T} {σ : st_T}
theorem gf_X12_7 (hexec : p.tables.exec = Jvm.exec) (hb : c.code = cc) (hts : ∀ w ∈ lw_all, w.before args s = true) (hown : s.vm.findClass RX12 = some m.cls) (hW : wv g L σ s H locs) {i : Nat} (hpr : pr σ 91 i) (htag : gP_ σ 91 199 i = 5) (hdg : decode cc pc = .ok (.getfield 7, 3)) (kk : W p l e R s m args below meth c H locs cells slots Q (F0 m (pc + 3) ls (.int (gF_ σ 91 2 i) :: rest))) : W p l e R s m args below meth c H locs cells slots Q (F0 m pc ls (.ref (L 91 i) :: rest)) := ww_get (d := (0, 0, 0)) hexec hb hts hown hW 91 i 2 hpr (obv_6 rfl htag) rfl in_X12 rfl (Nat.le_of_ble_eq_true rfl) (hts _ q1096) (fun _ h => h) hdg kk
theorem gf_X7_7 (hexec : p.tables.exec = Jvm.exec) (hb : c.code = cc) (hts : ∀ w ∈ lw_all, w.before args s = true) (hown : s.vm.findClass RX7 = some m.cls) (hW : wv g L σ s H locs) {i : Nat} (hpr : pr σ 91 i) (htag : gP_ σ 91 199 i = 2) (hdg : decode cc pc = .ok (.getfield 7, 3)) (kk : W p l e R s m args below meth c H locs cells slots Q (F0 m (pc + 3) ls (.int (gF_ σ 91 2 i) :: rest))) : W p l e R s m args below meth c H locs cells slots Q (F0 m pc ls (.ref (L 91 i) :: rest)) := ww_get (d := (0, 0, 0)) hexec hb hts hown hW 91 i 2 hpr (obv_6 rfl htag) rfl in_X7 rfl (Nat.le_of_ble_eq_true rfl) (hts _ q304) (fun _ h => h) hdg kk
theorem gf_X8_7 (hexec : p.tables.exec = Jvm.exec) (hb : c.code = cc) (hts : ∀ w ∈ lw_all, w.before args s = true) (hown : s.vm.findClass RX8 = some m.cls) (hW : wv g L σ s H locs) {i : Nat} (hpr : pr σ 91 i) (htag : gP_ σ 91 199 i = 1) (hdg : decode cc pc = .ok (.getfield 7, 3)) (kk : W p l e R s m args below meth c H locs cells slots Q (F0 m (pc + 3) ls (.int (gF_ σ 91 0 i) :: rest))) : W p l e R s m args below meth c H locs cells slots Q (F0 m pc ls (.ref (L 91 i) :: rest)) := ww_get (d := (0, 0, 0)) hexec hb hts hown hW 91 i 0 hpr (obv_6 rfl htag) rfl in_X8 rfl (Nat.le_of_ble_eq_true rfl) (hts _ q283) (fun _ h => h) hdg kk
theorem gf_X9_7 (hexec : p.tables.exec = Jvm.exec) (hb : c.code = cc) (hts : ∀ w ∈ lw_all, w.before args s = true) (hown : s.vm.findClass RX9 = some m.cls) (hW : wv g L σ s H locs) {i : Nat} (hpr : pr σ 91 i) (htag : gP_ σ 91 199 i = 0) (hdg : decode cc pc = .ok (.getfield 7, 3)) (kk : W p l e R s m args below meth c H locs cells slots Q (F0 m (pc + 3) ls (.int (gF_ σ 91 0 i) :: rest))) : W p l e R s m args below meth c H locs cells slots Q (F0 m pc ls (.ref (L 91 i) :: rest)) := ww_get (d := (0, 0, 0)) hexec hb hts hown hW 91 i 0 hpr (obv_6 rfl htag) rfl in_X9 rfl (Nat.le_of_ble_eq_true rfl) (hts _ q293) (fun _ h => h) hdg kk
theorem mf_X6_7 (hexec : p.tables.exec = Jvm.exec) (hb : c.code = cc) (hts : ∀ w ∈ lw_all, w.before args s = true) (hown : s.vm.findClass RX6 = some m.cls) (hnm0 : meth.name = "<init>") (hW : wv g L σ s H locs) {i : Nat} (hpr : pr σ 91 i) {n : Nat} (hpn : pr σ 91 n) (htag : gP_ σ 91 199 i = 2 ∨ gP_ σ 91 199 i = 3 ∨ gP_ σ 91 199 i = 4 ∨ gP_ σ 91 199 i = 5) (hdg : decode cc pc = .ok (.putfield 7, 3)) (kk : ∀ (H1 : Heap) (locs1 : List Loc), wv g L (sM_ σ 91 0 i n) s H1 locs1 → W p l e R s m args below meth c H1 locs1 cells slots Q (F0 m (pc + 3) ls rest)) : W p l e R s m args below meth c H locs cells slots Q (F0 m pc ls (.ref (L 91 n) :: .ref (L 91 i) :: rest)) := by
  rcases htag with h | h | h | h
  · exact ww_markF (d := (3, 91, 0)) hexec hb hts hown hnm0 hW 91 i 0 n hpr (tgd_3 hpn) (obv_6 rfl h) rfl (by decide) (Nat.le_of_ble_eq_true rfl) in_X7 tyX7_ok nmX7 rfl (Nat.le_of_ble_eq_true rfl) (hts _ q305) (fun _ h => h) rfl rfl rfl (fun _ => rfl) (fun _ => rfl) (congrArg Value.ref fp_M3.symm) hdg kk
  · exact ww_markF (d := (3, 91, 0)) hexec hb hts hown hnm0 hW 91 i 0 n hpr (tgd_3 hpn) (obv_6 rfl h) rfl (by decide) (Nat.le_of_ble_eq_true rfl) in_X14 tyX14_ok nmX14 rfl (Nat.le_of_ble_eq_true rfl) (hts _ q305) (fun _ h => h) rfl rfl rfl (fun _ => rfl) (fun _ => rfl) (congrArg Value.ref fp_M3.symm) hdg kk
  · exact ww_markF (d := (3, 91, 0)) hexec hb hts hown hnm0 hW 91 i 0 n hpr (tgd_3 hpn) (obv_6 rfl h) rfl (by decide) (Nat.le_of_ble_eq_true rfl) in_X15 tyX15_ok nmX15 rfl (Nat.le_of_ble_eq_true rfl) (hts _ q305) (fun _ h => h) rfl rfl rfl (fun _ => rfl) (fun _ => rfl) (congrArg Value.ref fp_M3.symm) hdg kk
  · exact ww_markF (d := (3, 91, 0)) hexec hb hts hown hnm0 hW 91 i 0 n hpr (tgd_3 hpn) (obv_6 rfl h) rfl (by decide) (Nat.le_of_ble_eq_true rfl) in_X12 tyX12_ok nmX12 rfl (Nat.le_of_ble_eq_true rfl) (hts _ q305) (fun _ h => h) rfl rfl rfl (fun _ => rfl) (fun _ => rfl) (congrArg Value.ref fp_M3.symm) hdg kk
theorem mf_X6_13 (hexec : p.tables.exec = Jvm.exec) (hb : c.code = cc) (hts : ∀ w ∈ lw_all, w.before args s = true) (hown : s.vm.findClass RX6 = some m.cls) (hnm0 : meth.name = "<init>") (hW : wv g L σ s H locs) {i : Nat} (hpr : pr σ 91 i) {n : Nat} (hpn : pr σ 91 n) (htag : gP_ σ 91 199 i = 2 ∨ gP_ σ 91 199 i = 3 ∨ gP_ σ 91 199 i = 4 ∨ gP_ σ 91 199 i = 5) (hdg : decode cc pc = .ok (.putfield 13, 3)) (kk : ∀ (H1 : Heap) (locs1 : List Loc), wv g L (sM_ σ 91 1 i n) s H1 locs1 → W p l e R s m args below meth c H1 locs1 cells slots Q (F0 m (pc + 3) ls rest)) : W p l e R s m args below meth c H locs cells slots Q (F0 m pc ls (.ref (L 91 n) :: .ref (L 91 i) :: rest)) := by
  rcases htag with h | h | h | h
  · exact ww_markF (d := (3, 91, 0)) hexec hb hts hown hnm0 hW 91 i 1 n hpr (tgd_3 hpn) (obv_6 rfl h) rfl (by decide) (Nat.le_of_ble_eq_true rfl) in_X7 tyX7_ok nmX7 rfl (Nat.le_of_ble_eq_true rfl) (hts _ q306) (fun _ h => h) rfl rfl rfl (fun _ => rfl) (fun _ => rfl) (congrArg Value.ref fp_M3.symm) hdg kk
  · exact ww_markF (d := (3, 91, 0)) hexec hb hts hown hnm0 hW 91 i 1 n hpr (tgd_3 hpn) (obv_6 rfl h) rfl (by decide) (Nat.le_of_ble_eq_true rfl) in_X14 tyX14_ok nmX14 rfl (Nat.le_of_ble_eq_true rfl) (hts _ q306) (fun _ h => h) rfl rfl rfl (fun _ => rfl) (fun _ => rfl) (congrArg Value.ref fp_M3.symm) hdg kk
  · exact ww_markF (d := (3, 91, 0)) hexec hb hts hown hnm0 hW 91 i 1 n hpr (tgd_3 hpn) (obv_6 rfl h) rfl (by decide) (Nat.le_of_ble_eq_true rfl) in_X15 tyX15_ok nmX15 rfl (Nat.le_of_ble_eq_true rfl) (hts _ q306) (fun _ h => h) rfl rfl rfl (fun _ => rfl) (fun _ => rfl) (congrArg Value.ref fp_M3.symm) hdg kk
  · exact ww_markF (d := (3, 91, 0)) hexec hb hts hown hnm0 hW 91 i 1 n hpr (tgd_3 hpn) (obv_6 rfl h) rfl (by decide) (Nat.le_of_ble_eq_true rfl) in_X12 tyX12_ok nmX12 rfl (Nat.le_of_ble_eq_true rfl) (hts _ q306) (fun _ h => h) rfl rfl rfl (fun _ => rfl) (fun _ => rfl) (congrArg Value.ref fp_M3.symm) hdg kk
theorem gf_X1_37 (hexec : p.tables.exec = Jvm.exec) (hb : c.code = cc) (hts : ∀ w ∈ lw_all, w.before args s = true) (hown : s.vm.findClass RX1 = some m.cls) (hW : wv g L σ s H locs) {i : Nat} (hpr : pr σ 1 i) (hfl : gP_ σ 1 (200 + 0) i ≠ 0) (hdg : decode cc pc = .ok (.getfield 37, 3)) (kk : W p l e R s m args below meth c H locs cells slots Q (F0 m (pc + 3) ls (.ref (L 10 0) :: rest))) : W p l e R s m args below meth c H locs cells slots Q (F0 m pc ls (.ref (L 1 i) :: rest)) :=
  ww_get (d := (1, 10, 0)) hexec hb hts hown hW 1 i 0 hpr (obv_0 rfl) rfl in_X1 rfl (Nat.le_of_ble_eq_true rfl) (hts _ q358) (fun _ h => h) hdg (by rw [fv_p (fun z => by cases z) hfl]; exact kk)
theorem gf_X1_115 (hexec : p.tables.exec = Jvm.exec) (hb : c.code = cc) (hts : ∀ w ∈ lw_all, w.before args s = true) (hown : s.vm.findClass RX1 = some m.cls) (hW : wv g L σ s H locs) {i : Nat} (hpr : pr σ 1 i) (hfl : gP_ σ 1 (200 + 20) i ≠ 0) (hdg : decode cc pc = .ok (.getfield 115, 3)) (kk : W p l e R s m args below meth c H locs cells slots Q (F0 m (pc + 3) ls (.ref (L 30 0) :: rest))) : W p l e R s m args below meth c H locs cells slots Q (F0 m pc ls (.ref (L 1 i) :: rest)) :=
  ww_get (d := (1, 30, 0)) hexec hb hts hown hW 1 i 20 hpr (obv_0 rfl) rfl in_X1 rfl (Nat.le_of_ble_eq_true rfl) (hts _ q380) (fun _ h => h) hdg (by rw [fv_p (fun z => by cases z) hfl]; exact kk)
theorem gf_X1_502 (hexec : p.tables.exec = Jvm.exec) (hb : c.code = cc) (hts : ∀ w ∈ lw_all, w.before args s = true) (hown : s.vm.findClass RX1 = some m.cls) (hW : wv g L σ s H locs) {i : Nat} (hpr : pr σ 1 i) (hdg : decode cc pc = .ok (.getfield 502, 3)) (kk : W p l e R s m args below meth c H locs cells slots Q (F0 m (pc + 3) ls (.int (gF_ σ 1 38 i) :: rest))) : W p l e R s m args below meth c H locs cells slots Q (F0 m pc ls (.ref (L 1 i) :: rest)) :=
  ww_get (d := (0, 0, 0)) hexec hb hts hown hW 1 i 38 hpr (obv_0 rfl) rfl in_X1 rfl (Nat.le_of_ble_eq_true rfl) (hts _ q401) (fun _ h => h) hdg kk
theorem pf_X1_243 (hexec : p.tables.exec = Jvm.exec) (hb : c.code = cc) (hts : ∀ w ∈ lw_all, w.before args s = true) (hown : s.vm.findClass RX1 = some m.cls) (hW : wv g L σ s H locs) {i : Nat} (hpr : pr σ 1 i) {v : Int32} (hdg : decode cc pc = .ok (.putfield 243, 3)) (kk : ∀ (H1 : Heap) (locs1 : List Loc), wv g L (sF_ σ 1 32 i v) s H1 locs1 → W p l e R s m args below meth c H1 locs1 cells slots Q (F0 m (pc + 3) ls rest)) : W p l e R s m args below meth c H locs cells slots Q (F0 m pc ls (.int v :: .ref (L 1 i) :: rest)) :=
  ww_put hexec hb hts hown hW 1 i 32 hpr (obv_0 rfl) rfl in_X1 tyX1_ok nmX1 rfl (Nat.le_of_ble_eq_true rfl) (Or.inl (hts _ q394)) (fun _ h => h) rfl rfl rfl rfl hdg kk
theorem pf_X1_502 (hexec : p.tables.exec = Jvm.exec) (hb : c.code = cc) (hts : ∀ w ∈ lw_all, w.before args s = true) (hown : s.vm.findClass RX1 = some m.cls) (hW : wv g L σ s H locs) {i : Nat} (hpr : pr σ 1 i) {v : Int32} (hdg : decode cc pc = .ok (.putfield 502, 3)) (kk : ∀ (H1 : Heap) (locs1 : List Loc), wv g L (sF_ σ 1 38 i v) s H1 locs1 → W p l e R s m args below meth c H1 locs1 cells slots Q (F0 m (pc + 3) ls rest)) : W p l e R s m args below meth c H locs cells slots Q (F0 m pc ls (.int v :: .ref (L 1 i) :: rest)) :=
  ww_put hexec hb hts hown hW 1 i 38 hpr (obv_0 rfl) rfl in_X1 tyX1_ok nmX1 rfl (Nat.le_of_ble_eq_true rfl) (Or.inl (hts _ q401)) (fun _ h => h) rfl rfl rfl rfl hdg kk
end
theorem hd_X1_feed : yX1_feed.cls = RX1 ∧ yX1_feed.cls ≠ "java/lang/invoke/MethodHandle" ∧ yX1_feed.cls ≠ "java/lang/invoke/VarHandle" ∧ (parseMethodDescriptor yX1_feed.desc).map (fun d => d.parameters.length) = some 5 := by decide +kernel
theorem hd_X1_build : yX1_build.cls = RX1 ∧ yX1_build.cls ≠ "java/lang/invoke/MethodHandle" ∧ yX1_build.cls ≠ "java/lang/invoke/VarHandle" ∧ (parseMethodDescriptor yX1_build.desc).map (fun d => d.parameters.length) = some 2 := by decide +kernel
theorem hd_X1_dusk : yX1_dusk.cls = RX1 ∧ yX1_dusk.cls ≠ "java/lang/invoke/MethodHandle" ∧ yX1_dusk.cls ≠ "java/lang/invoke/VarHandle" ∧ (parseMethodDescriptor yX1_dusk.desc).map (fun d => d.parameters.length) = some 3 := by decide +kernel
theorem hd_X1_opens : yX1_opens.cls = RX1 ∧ yX1_opens.cls ≠ "java/lang/invoke/MethodHandle" ∧ yX1_opens.cls ≠ "java/lang/invoke/VarHandle" ∧ (parseMethodDescriptor yX1_opens.desc).map (fun d => d.parameters.length) = some 2 := by decide +kernel
theorem hd_X1_gap : yX1_gap.cls = RX1 ∧ yX1_gap.cls ≠ "java/lang/invoke/MethodHandle" ∧ yX1_gap.cls ≠ "java/lang/invoke/VarHandle" ∧ (parseMethodDescriptor yX1_gap.desc).map (fun d => d.parameters.length) = some 3 := by decide +kernel
theorem hd_X12_of : yX12_of.cls = RX12 ∧ yX12_of.cls ≠ "java/lang/invoke/MethodHandle" ∧ yX12_of.cls ≠ "java/lang/invoke/VarHandle" ∧ (parseMethodDescriptor yX12_of.desc).map (fun d => d.parameters.length) = some 2 := by decide +kernel
theorem hd_X13_init : yX13_init.cls = RX13 ∧ yX13_init.cls ≠ "java/lang/invoke/MethodHandle" ∧ yX13_init.cls ≠ "java/lang/invoke/VarHandle" ∧ (parseMethodDescriptor yX13_init.desc).map (fun d => d.parameters.length) = some 3 := by decide +kernel
theorem hd_X16_init : yX16_init.cls = RX16 ∧ yX16_init.cls ≠ "java/lang/invoke/MethodHandle" ∧ yX16_init.cls ≠ "java/lang/invoke/VarHandle" ∧ (parseMethodDescriptor yX16_init.desc).map (fun d => d.parameters.length) = some 3 := by decide +kernel
theorem hd_X18_init : yX18_init.cls = RX18 ∧ yX18_init.cls ≠ "java/lang/invoke/MethodHandle" ∧ yX18_init.cls ≠ "java/lang/invoke/VarHandle" ∧ (parseMethodDescriptor yX18_init.desc).map (fun d => d.parameters.length) = some 2 := by decide +kernel
theorem hd_X2_init : yX2_init.cls = RX2 ∧ yX2_init.cls ≠ "java/lang/invoke/MethodHandle" ∧ yX2_init.cls ≠ "java/lang/invoke/VarHandle" ∧ (parseMethodDescriptor yX2_init.desc).map (fun d => d.parameters.length) = some 0 := by decide +kernel
theorem hd_X20_init : yX20_init.cls = RX20 ∧ yX20_init.cls ≠ "java/lang/invoke/MethodHandle" ∧ yX20_init.cls ≠ "java/lang/invoke/VarHandle" ∧ (parseMethodDescriptor yX20_init.desc).map (fun d => d.parameters.length) = some 3 := by decide +kernel
theorem hd_X21_init : yX21_init.cls = RX21 ∧ yX21_init.cls ≠ "java/lang/invoke/MethodHandle" ∧ yX21_init.cls ≠ "java/lang/invoke/VarHandle" ∧ (parseMethodDescriptor yX21_init.desc).map (fun d => d.parameters.length) = some 2 := by decide +kernel
theorem hd_X3_init : yX3_init.cls = RX3 ∧ yX3_init.cls ≠ "java/lang/invoke/MethodHandle" ∧ yX3_init.cls ≠ "java/lang/invoke/VarHandle" ∧ (parseMethodDescriptor yX3_init.desc).map (fun d => d.parameters.length) = some 0 := by decide +kernel
theorem hd_X4_init : yX4_init.cls = RX4 ∧ yX4_init.cls ≠ "java/lang/invoke/MethodHandle" ∧ yX4_init.cls ≠ "java/lang/invoke/VarHandle" ∧ (parseMethodDescriptor yX4_init.desc).map (fun d => d.parameters.length) = some 0 := by decide +kernel
theorem hd_X6_init : yX6_init.cls = RX6 ∧ yX6_init.cls ≠ "java/lang/invoke/MethodHandle" ∧ yX6_init.cls ≠ "java/lang/invoke/VarHandle" ∧ (parseMethodDescriptor yX6_init.desc).map (fun d => d.parameters.length) = some 2 := by decide +kernel
theorem hd_X7_init : yX7_init.cls = RX7 ∧ yX7_init.cls ≠ "java/lang/invoke/MethodHandle" ∧ yX7_init.cls ≠ "java/lang/invoke/VarHandle" ∧ (parseMethodDescriptor yX7_init.desc).map (fun d => d.parameters.length) = some 3 := by decide +kernel
theorem hd_X7_of : yX7_of.cls = RX7 ∧ yX7_of.cls ≠ "java/lang/invoke/MethodHandle" ∧ yX7_of.cls ≠ "java/lang/invoke/VarHandle" ∧ (parseMethodDescriptor yX7_of.desc).map (fun d => d.parameters.length) = some 2 := by decide +kernel
theorem hd_X8_init : yX8_init.cls = RX8 ∧ yX8_init.cls ≠ "java/lang/invoke/MethodHandle" ∧ yX8_init.cls ≠ "java/lang/invoke/VarHandle" ∧ (parseMethodDescriptor yX8_init.desc).map (fun d => d.parameters.length) = some 1 := by decide +kernel
theorem hd_X8_value : yX8_value.cls = RX8 ∧ yX8_value.cls ≠ "java/lang/invoke/MethodHandle" ∧ yX8_value.cls ≠ "java/lang/invoke/VarHandle" ∧ (parseMethodDescriptor yX8_value.desc).map (fun d => d.parameters.length) = some 1 := by decide +kernel
theorem hd_X9_init : yX9_init.cls = RX9 ∧ yX9_init.cls ≠ "java/lang/invoke/MethodHandle" ∧ yX9_init.cls ≠ "java/lang/invoke/VarHandle" ∧ (parseMethodDescriptor yX9_init.desc).map (fun d => d.parameters.length) = some 1 := by decide +kernel
theorem hd_X9_value : yX9_value.cls = RX9 ∧ yX9_value.cls ≠ "java/lang/invoke/MethodHandle" ∧ yX9_value.cls ≠ "java/lang/invoke/VarHandle" ∧ (parseMethodDescriptor yX9_value.desc).map (fun d => d.parameters.length) = some 1 := by decide +kernel
theorem hd_X1_rents : yX1_rents.cls = RX1 ∧ yX1_rents.cls ≠ "java/lang/invoke/MethodHandle" ∧ yX1_rents.cls ≠ "java/lang/invoke/VarHandle" ∧ (parseMethodDescriptor yX1_rents.desc).map (fun d => d.parameters.length) = some 2 := by decide +kernel
theorem hd_X12_init : yX12_init.cls = RX12 ∧ yX12_init.cls ≠ "java/lang/invoke/MethodHandle" ∧ yX12_init.cls ≠ "java/lang/invoke/VarHandle" ∧ (parseMethodDescriptor yX12_init.desc).map (fun d => d.parameters.length) = some 3 := by decide +kernel
theorem hd_X14_init : yX14_init.cls = RX14 ∧ yX14_init.cls ≠ "java/lang/invoke/MethodHandle" ∧ yX14_init.cls ≠ "java/lang/invoke/VarHandle" ∧ (parseMethodDescriptor yX14_init.desc).map (fun d => d.parameters.length) = some 2 := by decide +kernel
theorem hd_X15_init : yX15_init.cls = RX15 ∧ yX15_init.cls ≠ "java/lang/invoke/MethodHandle" ∧ yX15_init.cls ≠ "java/lang/invoke/VarHandle" ∧ (parseMethodDescriptor yX15_init.desc).map (fun d => d.parameters.length) = some 2 := by decide +kernel
noncomputable def m_X1_feed_L72 (k54 : st_T → Nat → Int32 → Int32 → Option (Int32 × st_T)) : Nat → st_T → Nat → Int32 → Int32 → Int32 → Int32 → Option (Int32 × st_T)
  | 0, _, _, _, _, _, _ => none
  | n + 1, σ, ix7, x8, x9, x10, x11 => if x11 < 0 then k54 σ ix7 x8 (x9 + (1 : Int32)) else lt_ (sF_ σ 1 32 0 ((gF_ σ 1 32 0) + (1 : Int32))) fun σ2 => if inb (gF_ σ 1 32 0) 400 then lt_ (sE_ σ2 10 0 (gF_ σ 1 32 0).toNatClampNeg (vp_nar .byte (((x10 >>> (x11 &&& 31))).toInt8.toInt32))) fun σ5 => (m_X1_feed_L72 k54 n) σ5 ix7 x8 x9 x10 (x11 + (-8 : Int32)) else none
noncomputable def m_X1_feed_L54 : Nat → st_T → Nat → Int32 → Int32 → Option (Int32 × st_T)
  | 0, _, _, _, _ => none
  | n + 1, σ, ix7, x8, x9 => if x8 ≤ x9 then some ((gF_ σ 1 32 0), σ) else if ix7 < gN_ σ 96 then if inb x9 5 then (m_X1_feed_L72 (m_X1_feed_L54 n) fu_) σ ix7 x8 x9 (gA_ σ 96 ix7 x9.toNatClampNeg) (24 : Int32) else none else none
noncomputable def m_X1_feed (σ : st_T) (a1 : Int32) (a2 : Int32) (a3 : Int32) (a4 : Int32) (a5 : Int32) : Option (Int32 × st_T) := if ((gF_ σ 1 32 0) + (20 : Int32)) ≤ (400 : Int32) then lt_ (nA_ σ 96 5) fun σ12 => ck2_ σ12 (lt_ (sE_ σ12 96 (gN_ σ 96) (0 : Int32).toNatClampNeg a1) fun σ15 => lt_ (sE_ σ15 96 (gN_ σ 96) (1 : Int32).toNatClampNeg a2) fun σ18 => lt_ (sE_ σ18 96 (gN_ σ 96) (2 : Int32).toNatClampNeg a3) fun σ21 => lt_ (sE_ σ21 96 (gN_ σ 96) (3 : Int32).toNatClampNeg a4) fun σ24 => lt_ (sE_ σ24 96 (gN_ σ 96) (4 : Int32).toNatClampNeg a5) fun σ27 => (m_X1_feed_L54 fu_) σ27 (gN_ σ 96) (5 : Int32) (0 : Int32)) else some ((-1 : Int32), σ)
noncomputable def m_X1_build_L247 (σ : st_T) (t0 : Int32) : Option ((Nat ⊕ Int32) × st_T) := some ((.inr t0), σ)
noncomputable def m_X1_build_L204 (k89 : st_T → Int32 → Int32 → Nat → Int32 → Int32 → Int32 → Int32 → Int32 → Option ((Nat ⊕ Int32) × st_T)) (σ : st_T) (x1 : Int32) (x2 : Int32) (ix3 : Nat) (x5 : Int32) (x6 : Int32) (x7 : Int32) (x8 : Int32) (x9 : Int32) : Option ((Nat ⊕ Int32) × st_T) := k89 σ x1 x2 ix3 x5 x6 x7 x8 (x9 + (1 : Int32))
noncomputable def m_X1_build_L124 (k204 : st_T → Int32 → Int32 → Nat → Int32 → Int32 → Int32 → Int32 → Int32 → Option ((Nat ⊕ Int32) × st_T)) (σ : st_T) (x1 : Int32) (x2 : Int32) (ix3 : Nat) (x5 : Int32) (x6 : Int32) (x7 : Int32) (x8 : Int32) (x9 : Int32) (x10 : Int32) : Option ((Nat ⊕ Int32) × st_T) := (m_X2_isOpen σ 0 x8).bind fun v3 => if v3 = 0 then k204 σ x1 x2 ix3 x5 x6 x7 x8 x9 else (m_X2_isOpen σ 0 x10).bind fun v7 => if v7 = 0 then k204 σ x1 x2 ix3 x5 x6 x7 x8 x9 else (m_X2_like σ 1 0).bind fun σ11 => pif_ (kp_ σ σ11) ((m_X2_fence_2 σ11 1 x8 x10 (100 : Int32)).bind fun σ14 => pif_ (kp_ σ11 σ14) (bn2_ (m_X1_foretells σ14 x1) fun v17 σ18 => pif_ (kp_ σ14 σ18) (if v17 < x5 then k204 σ18 x1 x2 ix3 v17 x8 x10 x8 x9 else k204 σ18 x1 x2 ix3 x5 x6 x7 x8 x9)))
noncomputable def m_X1_build_L89 (k79 : st_T → Int32 → Int32 → Nat → Int32 → Int32 → Int32 → Int32 → Option ((Nat ⊕ Int32) × st_T)) : Nat → st_T → Int32 → Int32 → Nat → Int32 → Int32 → Int32 → Int32 → Int32 → Option ((Nat ⊕ Int32) × st_T)
  | 0, _, _, _, _, _, _, _, _, _ => none
  | n + 1, σ, x1, x2, ix3, x5, x6, x7, x8, x9 => if (4 : Int32) ≤ x9 then k79 σ x1 x2 ix3 x5 x6 x7 (x8 + (1 : Int32)) else (m_X1_next x8 x9).bind fun v23 => if v23 = (-1 : Int32) then (m_X1_build_L204 (m_X1_build_L89 k79 n)) σ x1 x2 ix3 x5 x6 x7 x8 x9 else if ix3 < gN_ σ 97 then if inb x8 64 then if (gA_ σ 97 ix3 x8.toNatClampNeg) = 0 then if inb v23 64 then if (gA_ σ 97 ix3 v23.toNatClampNeg) = 0 then (m_X1_build_L204 (m_X1_build_L89 k79 n)) σ x1 x2 ix3 x5 x6 x7 x8 x9 else (m_X1_build_L124 (m_X1_build_L204 (m_X1_build_L89 k79 n))) σ x1 x2 ix3 x5 x6 x7 x8 x9 v23 else none else (m_X1_build_L124 (m_X1_build_L204 (m_X1_build_L89 k79 n))) σ x1 x2 ix3 x5 x6 x7 x8 x9 v23 else none else none
noncomputable def m_X1_build_L79 : Nat → st_T → Int32 → Int32 → Nat → Int32 → Int32 → Int32 → Int32 → Option ((Nat ⊕ Int32) × st_T)
  | 0, _, _, _, _, _, _, _, _ => none
  | n + 1, σ, x1, x2, ix3, x5, x6, x7, x8 => if (64 : Int32) ≤ x8 then if x6 = (-1 : Int32) then m_X1_build_L247 σ (-1 : Int32) else if x2 = 0 then m_X1_build_L247 σ x6 else if x2 = (1 : Int32) then m_X1_build_L247 σ x7 else m_X1_build_L247 σ x5 else (m_X1_build_L89 (m_X1_build_L79 n) fu_) σ x1 x2 ix3 x5 x6 x7 x8 (2 : Int32)
noncomputable def m_X1_build_L53 : Nat → st_T → Int32 → Int32 → Nat → Int32 → Int32 → Int32 → Int32 → Int32 → Option ((Nat ⊕ Int32) × st_T)
  | 0, _, _, _, _, _, _, _, _, _ => none
  | n + 1, σ, x1, x2, ix3, x4, x5, x6, x7, x8 => if x4 ≤ x8 then (m_X1_build_L79 fu_) σ x1 x2 ix3 x5 x6 x7 (0 : Int32) else if inb x8 12 then if ix3 < gN_ σ 97 then if inb (gA_ σ 24 0 x8.toNatClampNeg) 64 then lt_ (sE_ σ 97 ix3 (gA_ σ 24 0 x8.toNatClampNeg).toNatClampNeg (vp_nar .boolean (1 : Int32))) fun σ38 => (m_X1_build_L53 n) σ38 x1 x2 ix3 x4 x5 x6 x7 (x8 + (1 : Int32)) else none else none else none
noncomputable def m_X1_build_L18 (σ : st_T) (x1 : Int32) (x2 : Int32) (t0 : Int32) : Option ((Nat ⊕ Int32) × st_T) := (m_X1_wrong t0).bind fun o43 => sm_ o43 (fun k44 => some ((.inl k44), (bX_ σ))) (fun v45 => lt_ (nA_ σ 97 64) fun σ47 => ck2_ σ47 (bn2_ (m_X2_ripe σ47 0) fun v52 σ53 => pif_ (kp_ σ47 σ53) ((m_X1_build_L53 fu_) σ53 x1 x2 (gN_ σ 97) v52 (1000000000 : Int32) (-1 : Int32) (-1 : Int32) (0 : Int32))))
noncomputable def m_X1_build (σ : st_T) (a1 : Int32) (a2 : Int32) : Option ((Nat ⊕ Int32) × st_T) := (m_X1_some a1).bind fun o57 => sm_ o57 (fun k58 => some ((.inl k58), (bX_ σ))) (fun v59 => (m_X1_in a2 (0 : Int32) (2 : Int32)).bind fun v62 => if v62 = 0 then m_X1_build_L18 σ a1 a2 (1 : Int32) else m_X1_build_L18 σ a1 a2 (0 : Int32))
noncomputable def m_X1_dusk_L163 (σ : st_T) (t0 : Int32) : Option ((Nat ⊕ Int32) × st_T) := some ((.inr t0), σ)
noncomputable def m_X1_dusk_L91 (k59 : st_T → Int32 → Int32 → Int32 → Nat → Int32 → Option ((Nat ⊕ Int32) × st_T)) : Nat → st_T → Int32 → Int32 → Int32 → Nat → Int32 → Int32 → Option ((Nat ⊕ Int32) × st_T)
  | 0, _, _, _, _, _, _, _ => none
  | n + 1, σ, x1, x2, x3, ix4, x5, x6 => if (64 : Int32) ≤ x6 then k59 σ x1 x2 x3 ix4 (x5 + (1 : Int32)) else if ix4 < gN_ σ 98 then if inb x6 64 then lt_ (sE_ σ 98 ix4 x6.toNatClampNeg (vp_nar .boolean ((gA_ σ 98 ix4 x6.toNatClampNeg) ||| (gA_ σ 38 0 x6.toNatClampNeg)))) fun σ4 => (m_X1_dusk_L91 k59 n) σ4 x1 x2 x3 ix4 x5 (x6 + (1 : Int32)) else none else none
noncomputable def m_X1_dusk_L59 : Nat → st_T → Int32 → Int32 → Int32 → Nat → Int32 → Option ((Nat ⊕ Int32) × st_T)
  | 0, _, _, _, _, _, _ => none
  | n + 1, σ, x1, x2, x3, ix4, x5 => if (gF_ σ 70 2 0) ≤ x5 then (m_X4_from σ x1 98 ix4).bind fun σ10 => pif_ (kp_ σ σ10) (if inb x2 64 then if (gA_ σ10 66 0 x2.toNatClampNeg) = (1000000000 : Int32) then m_X1_dusk_L163 σ10 (-1 : Int32) else m_X1_dusk_L163 σ10 (gA_ σ10 66 0 x2.toNatClampNeg) else none) else if alg_ σ 70 71 0 x5 then if (gP_ σ 71 (2 + x5.toNatClampNeg) 0) < gN_ σ 80 then (m_X1_places σ (gP_ σ 71 (2 + x5.toNatClampNeg) 0) x3).bind fun σ17 => pif_ (kp_ σ σ17) ((m_X1_dusk_L91 (m_X1_dusk_L59 n) fu_) σ17 x1 x2 x3 ix4 x5 (0 : Int32)) else none else none
noncomputable def m_X1_dusk_L49 (k21 : st_T → Int32 → Int32 → Int32 → Nat → Int32 → Option ((Nat ⊕ Int32) × st_T)) (σ : st_T) (x1 : Int32) (x2 : Int32) (x3 : Int32) (ix4 : Nat) (x5 : Int32) (it0 : Nat) (t1 : Int32) (t2 : Int32) : Option ((Nat ⊕ Int32) × st_T) := if it0 < gN_ σ 98 then if inb t1 64 then lt_ (sE_ σ 98 it0 t1.toNatClampNeg (vp_nar .boolean t2)) fun σ20 => k21 σ20 x1 x2 x3 ix4 (x5 + (1 : Int32)) else none else none
noncomputable def m_X1_dusk_L21 : Nat → st_T → Int32 → Int32 → Int32 → Nat → Int32 → Option ((Nat ⊕ Int32) × st_T)
  | 0, _, _, _, _, _, _ => none
  | n + 1, σ, x1, x2, x3, ix4, x5 => if (64 : Int32) ≤ x5 then (m_X1_dusk_L59 fu_) σ x1 x2 x3 ix4 (0 : Int32) else (m_X2_isOpen σ 0 x5).bind fun v26 => if v26 = 0 then (m_X1_dusk_L49 (m_X1_dusk_L21 n)) σ x1 x2 x3 ix4 x5 ix4 x5 (1 : Int32) else (m_X1_dusk_L49 (m_X1_dusk_L21 n)) σ x1 x2 x3 ix4 x5 ix4 x5 (0 : Int32)
noncomputable def m_X1_dusk (σ : st_T) (a1 : Int32) (a2 : Int32) (a3 : Int32) : Option ((Nat ⊕ Int32) × st_T) := (m_X1_cell a1).bind fun o30 => sm_ o30 (fun k31 => some ((.inl k31), (bX_ σ))) (fun v32 => (m_X1_cell a2).bind fun o35 => sm_ o35 (fun k36 => some ((.inl k36), (bX_ σ))) (fun v37 => (m_X1_hour a3).bind fun o40 => sm_ o40 (fun k41 => some ((.inl k41), (bX_ σ))) (fun v42 => lt_ (nA_ σ 98 64) fun σ44 => ck2_ σ44 ((m_X1_dusk_L21 fu_) σ44 a1 a2 a3 (gN_ σ 98) (0 : Int32)))))
noncomputable def m_X1_opens_L246 (k197 : st_T → Int32 → Nat → Int32 → Int32 → Option (Int32 × st_T)) (σ : st_T) (x2 : Int32) (ix3 : Nat) (x5 : Int32) (x6 : Int32) : Option (Int32 × st_T) := (m_X1_onward σ ix3 x6 x2).bind fun v3 => k197 σ x2 ix3 x5 v3
noncomputable def m_X1_opens_L197 : Nat → st_T → Int32 → Nat → Int32 → Int32 → Option (Int32 × st_T)
  | 0, _, _, _, _, _ => none
  | n + 1, σ, x2, ix3, x5, x6 => if x6 = (-1 : Int32) then some (x5, σ) else if inb x6 64 then if (gA_ σ 37 0 x6.toNatClampNeg) = 0 then lt_ (sF_ σ 1 38 0 ((gF_ σ 1 38 0) + (1 : Int32))) fun σ7 => if inb (gF_ σ 1 38 0) 64 then lt_ (sE_ σ7 30 0 (gF_ σ 1 38 0).toNatClampNeg x6) fun σ10 => (m_X1_opens_L246 (m_X1_opens_L197 n)) σ10 x2 ix3 (x5 + (gA_ σ10 26 0 x6.toNatClampNeg)) x6 else none else (m_X1_opens_L246 (m_X1_opens_L197 n)) σ x2 ix3 x5 x6 else none
noncomputable def m_X1_opens_L171 (k79 : st_T → Int32 → Int32 → Nat → Int32 → Int32 → Option (Int32 × st_T)) (σ : st_T) (x1 : Int32) (x2 : Int32) (ix3 : Nat) (x4 : Int32) (x5 : Int32) : Option (Int32 × st_T) := k79 σ x1 x2 ix3 x4 (x5 + (1 : Int32))
noncomputable def m_X1_opens_L165 (k89 : st_T → Int32 → Int32 → Nat → Int32 → Int32 → Int32 → Option (Int32 × st_T)) (σ : st_T) (x1 : Int32) (x2 : Int32) (ix3 : Nat) (x4 : Int32) (x5 : Int32) (x6 : Int32) : Option (Int32 × st_T) := k89 σ x1 x2 ix3 x4 x5 (x6 + (1 : Int32))
noncomputable def m_X1_opens_L89 (k79 : st_T → Int32 → Int32 → Nat → Int32 → Int32 → Option (Int32 × st_T)) : Nat → st_T → Int32 → Int32 → Nat → Int32 → Int32 → Int32 → Option (Int32 × st_T)
  | 0, _, _, _, _, _, _, _ => none
  | n + 1, σ, x1, x2, ix3, x4, x5, x6 => if (4 : Int32) ≤ x6 then (m_X1_opens_L171 k79) σ x1 x2 ix3 x4 x5 else if ix3 < gN_ σ 99 then if inb x5 64 then if (1000000000 : Int32) ≤ (gA_ σ 99 ix3 x5.toNatClampNeg) then (m_X1_opens_L171 k79) σ x1 x2 ix3 x4 x5 else (m_X1_next x5 x6).bind fun v18 => (m_X2_isOpen σ 0 v18).bind fun v21 => if v21 = 0 then (m_X1_opens_L165 (m_X1_opens_L89 k79 n)) σ x1 x2 ix3 x4 x5 x6 else (m_X1_weight σ v18).bind fun v25 => if inb v18 64 then if ((gA_ σ 99 ix3 x5.toNatClampNeg) + v25) < (gA_ σ 99 ix3 v18.toNatClampNeg) then (m_X1_weight σ v18).bind fun v30 => lt_ (sE_ σ 99 ix3 v18.toNatClampNeg ((gA_ σ 99 ix3 x5.toNatClampNeg) + v30)) fun σ31 => (m_X1_opens_L165 (m_X1_opens_L89 k79 n)) σ31 x1 x2 ix3 (1 : Int32) x5 x6 else (m_X1_opens_L165 (m_X1_opens_L89 k79 n)) σ x1 x2 ix3 x4 x5 x6 else none else none else none
noncomputable def m_X1_opens_L79 (k68 : st_T → Int32 → Int32 → Nat → Int32 → Option (Int32 × st_T)) : Nat → st_T → Int32 → Int32 → Nat → Int32 → Int32 → Option (Int32 × st_T)
  | 0, _, _, _, _, _, _ => none
  | n + 1, σ, x1, x2, ix3, x4, x5 => if (64 : Int32) ≤ x5 then k68 σ x1 x2 ix3 x4 else (m_X1_opens_L89 (m_X1_opens_L79 k68 n) fu_) σ x1 x2 ix3 x4 x5 (0 : Int32)
noncomputable def m_X1_opens_L68 : Nat → st_T → Int32 → Int32 → Nat → Int32 → Option (Int32 × st_T)
  | 0, _, _, _, _, _ => none
  | n + 1, σ, x1, x2, ix3, x4 => if x4 = 0 then if ix3 < gN_ σ 99 then if inb x1 64 then if (gA_ σ 99 ix3 x1.toNatClampNeg) = (1000000000 : Int32) then some ((-1 : Int32), σ) else (m_X1_opens_L197 fu_) σ x2 ix3 (0 : Int32) x1 else none else none else (m_X1_opens_L79 (m_X1_opens_L68 n) fu_) σ x1 x2 ix3 (0 : Int32) (0 : Int32)
noncomputable def m_X1_opens_L55 (σ : st_T)  : Option (Int32 × st_T) := some ((-1 : Int32), σ)
noncomputable def m_X1_opens_L8 : Nat → st_T → Int32 → Int32 → Nat → Int32 → Option (Int32 × st_T)
  | 0, _, _, _, _, _ => none
  | n + 1, σ, x1, x2, ix3, x4 => if (64 : Int32) ≤ x4 then lt_ (sF_ σ 1 38 0 (0 : Int32)) fun σ40 => (m_X2_isOpen σ40 0 x1).bind fun v44 => if v44 = 0 then m_X1_opens_L55 σ40 else (m_X2_isOpen σ40 0 x2).bind fun v48 => if v48 = 0 then m_X1_opens_L55 σ40 else (m_X1_weight σ40 x2).bind fun v52 => if ix3 < gN_ σ40 99 then if inb x2 64 then lt_ (sE_ σ40 99 ix3 x2.toNatClampNeg v52) fun σ55 => (m_X1_opens_L68 fu_) σ55 x1 x2 ix3 (1 : Int32) else none else none else if ix3 < gN_ σ 99 then if inb x4 64 then lt_ (sE_ σ 99 ix3 x4.toNatClampNeg (1000000000 : Int32)) fun σ60 => (m_X1_opens_L8 n) σ60 x1 x2 ix3 (x4 + (1 : Int32)) else none else none
noncomputable def m_X1_opens (σ : st_T) (a1 : Int32) (a2 : Int32) : Option (Int32 × st_T) := lt_ (nA_ σ 99 64) fun σ64 => ck2_ σ64 ((m_X1_opens_L8 fu_) σ64 a1 a2 (gN_ σ 99) (0 : Int32))
noncomputable def m_X1_gap_L42 (σ : st_T) (t0 : Int32) : Option ((Nat ⊕ Int32) × st_T) := some ((.inr t0), σ)
noncomputable def m_X1_gap_L41 (k42 : st_T → Int32 → Option ((Nat ⊕ Int32) × st_T)) (σ : st_T)  : Option ((Nat ⊕ Int32) × st_T) := k42 σ (-1 : Int32)
noncomputable def m_X1_gap (σ : st_T) (a1 : Int32) (a2 : Int32) (a3 : Int32) : Option ((Nat ⊕ Int32) × st_T) := (m_X1_cell a1).bind fun o3 => sm_ o3 (fun k4 => some ((.inl k4), (bX_ σ))) (fun v5 => (m_X1_cell a2).bind fun o8 => sm_ o8 (fun k9 => some ((.inl k9), (bX_ σ))) (fun v10 => bn2_ (m_X1_opens σ a1 a2) fun v13 σ14 => if cu_ σ ≤ cu_ σ14 ∧ su_ σ ≤ su_ σ14 then ck2_ σ14 (if v13 = (-1 : Int32) then (m_X1_gap_L41 m_X1_gap_L42) σ14 else (m_X1_in a3 (0 : Int32) ((gF_ σ14 1 38 0) - (1 : Int32))).bind fun v20 => if v20 = 0 then (m_X1_gap_L41 m_X1_gap_L42) σ14 else if inb a3 64 then m_X1_gap_L42 σ14 (gA_ σ14 30 0 a3.toNatClampNeg) else none) else none))
def m_X12_of_L44 (i0 : Nat) (σ : st_T) (t0 : Int32) : Option Int32 := some t0
def m_X12_of_L43 (i0 : Nat) (k44 : st_T → Int32 → Option Int32) (σ : st_T)  : Option Int32 := k44 σ (0 : Int32)
def m_X12_of_L39 (i0 : Nat) (k44 : st_T → Int32 → Option Int32) (σ : st_T)  : Option Int32 := k44 σ (1 : Int32)
def m_X12_of (σ : st_T) (i0 : Nat) (a1 : Int32) (a2 : Int32) : Option Int32 := if i0 < gN_ σ 91 then if gP_ σ 91 199 i0 = 5 then if (gF_ σ 91 2 i0) = (60 : Int32) then if a2 ≤ a1 then (m_X12_of_L43 i0 (m_X12_of_L44 i0)) σ else (m_X12_of_L39 i0 (m_X12_of_L44 i0)) σ else if (gF_ σ 91 2 i0) = (62 : Int32) then if a1 ≤ a2 then (m_X12_of_L43 i0 (m_X12_of_L44 i0)) σ else (m_X12_of_L39 i0 (m_X12_of_L44 i0)) σ else if a1 = a2 then (m_X12_of_L39 i0 (m_X12_of_L44 i0)) σ else (m_X12_of_L43 i0 (m_X12_of_L44 i0)) σ else none else none
def m_X13_init (σ : st_T) (i0 : Nat) (i1 : Nat) (i2 : Nat) (i3 : Nat) : Option st_T := if i0 < gN_ σ 91 then if gP_ σ 91 199 i0 = 6 then if i1 < gN_ σ 91 then lt_ (sM_ σ 91 0 i0 i1) fun σ4 => if gP_ σ4 91 199 i0 = 6 then if i2 < gN_ σ4 91 then lt_ (sM_ σ4 91 1 i0 i2) fun σ10 => if gP_ σ10 91 199 i0 = 6 then if i3 < gN_ σ10 91 then lt_ (sM_ σ10 91 2 i0 i3) fun σ17 => some σ17 else none else none else none else none else none else none else none
noncomputable def m_X16_init (σ : st_T) (i0 : Nat) (a1 : Int32) (a2 : Int32) (a3 : Int32) : Option st_T := if i0 < gN_ σ 80 then lt_ (nA_ σ 81 20) fun σ3 => ck1_ σ3 (if (gN_ σ 81) = i0 then lt_ (sM_ σ3 80 3 i0 0) fun σ8 => lt_ (nA_ σ8 82 20) fun σ13 => ck1_ σ13 (if (gN_ σ8 82) = i0 then lt_ (sM_ σ13 80 4 i0 0) fun σ19 => lt_ (sF_ σ19 80 0 i0 a1) fun σ24 => lt_ (sF_ σ24 80 1 i0 a2) fun σ29 => lt_ (sF_ σ29 80 2 i0 a3) fun σ34 => some σ34 else none) else none) else none
def m_X18_init (σ : st_T) (i0 : Nat) (a1 : Int32) (a2 : Int32) : Option st_T := if i0 < gN_ σ 84 then lt_ (sF_ σ 84 0 i0 a1) fun σ2 => lt_ (sF_ σ2 84 1 i0 a2) fun σ5 => some σ5 else none
noncomputable def m_X2_init (σ : st_T) (i0 : Nat) : Option st_T := if i0 < gN_ σ 50 then lt_ (nA_ σ 51 64) fun σ3 => ck1_ σ3 (if (gN_ σ 51) = i0 then lt_ (sM_ σ3 50 0 i0 0) fun σ8 => lt_ (nA_ σ8 52 64) fun σ13 => ck1_ σ13 (if (gN_ σ8 52) = i0 then lt_ (sM_ σ13 50 1 i0 0) fun σ19 => lt_ (nA_ σ19 53 64) fun σ25 => ck1_ σ25 (if (gN_ σ19 53) = i0 then lt_ (sM_ σ25 50 2 i0 0) fun σ32 => lt_ (nA_ σ32 54 64) fun σ39 => ck1_ σ39 (if (gN_ σ32 54) = i0 then lt_ (sM_ σ39 50 3 i0 0) fun σ47 => lt_ (nA_ σ47 55 64) fun σ55 => ck1_ σ55 (if (gN_ σ47 55) = i0 then lt_ (sM_ σ55 50 4 i0 0) fun σ64 => lt_ (nA_ σ64 56 64) fun σ73 => ck1_ σ73 (if (gN_ σ64 56) = i0 then lt_ (sM_ σ73 50 5 i0 0) fun σ83 => lt_ (nA_ σ83 57 64) fun σ93 => ck1_ σ93 (if (gN_ σ83 57) = i0 then lt_ (sM_ σ93 50 6 i0 0) fun σ104 => lt_ (nA_ σ104 58 64) fun σ115 => ck1_ σ115 (if (gN_ σ104 58) = i0 then lt_ (sM_ σ115 50 7 i0 0) fun σ127 => lt_ (nA_ σ127 59 64) fun σ139 => ck1_ σ139 (if (gN_ σ127 59) = i0 then lt_ (sM_ σ139 50 8 i0 0) fun σ152 => some σ152 else none) else none) else none) else none) else none) else none) else none) else none) else none) else none
def m_X20_init (σ : st_T) (i0 : Nat) (a1 : Int32) (a2 : Int32) (a3 : Int32) : Option st_T := if i0 < gN_ σ 85 then lt_ (sF_ σ 85 0 i0 a1) fun σ2 => lt_ (sF_ σ2 85 1 i0 a2) fun σ5 => lt_ (sF_ σ5 85 2 i0 a3) fun σ8 => some σ8 else none
def m_X21_init (σ : st_T) (i0 : Nat) (i1 : Nat) (a2 : Int32) : Option st_T := if i0 < gN_ σ 86 then if i1 < gN_ σ 85 then lt_ (sM_ σ 86 0 i0 i1) fun σ3 => lt_ (sF_ σ3 86 1 i0 a2) fun σ7 => some σ7 else none else none
noncomputable def m_X3_init (σ : st_T) (i0 : Nat) : Option st_T := if i0 < gN_ σ 60 then lt_ (nA_ σ 61 64) fun σ3 => ck1_ σ3 (if (gN_ σ 61) = 0 then lt_ (sM_ σ3 60 0 i0 0) fun σ8 => lt_ (nA_ σ8 62 64) fun σ13 => ck1_ σ13 (if (gN_ σ8 62) = 0 then lt_ (sM_ σ13 60 1 i0 0) fun σ19 => lt_ (nA_ σ19 63 64) fun σ25 => ck1_ σ25 (if (gN_ σ19 63) = 0 then lt_ (sM_ σ25 60 2 i0 0) fun σ32 => some σ32 else none) else none) else none) else none
noncomputable def m_X4_init (σ : st_T) (i0 : Nat) : Option st_T := if i0 < gN_ σ 65 then lt_ (nA_ σ 66 64) fun σ3 => ck1_ σ3 (if (gN_ σ 66) = 0 then lt_ (sM_ σ3 65 0 i0 0) fun σ8 => lt_ (nA_ σ8 67 64) fun σ13 => ck1_ σ13 (if (gN_ σ8 67) = 0 then lt_ (sM_ σ13 65 1 i0 0) fun σ19 => some σ19 else none) else none) else none
def m_X6_init (σ : st_T) (i0 : Nat) (i1 : Nat) (i2 : Nat) : Option st_T := if i0 < gN_ σ 91 then if gP_ σ 91 199 i0 = 2 ∨ gP_ σ 91 199 i0 = 3 ∨ gP_ σ 91 199 i0 = 4 ∨ gP_ σ 91 199 i0 = 5 then if i1 < gN_ σ 91 then lt_ (sM_ σ 91 0 i0 i1) fun σ4 => if gP_ σ4 91 199 i0 = 2 ∨ gP_ σ4 91 199 i0 = 3 ∨ gP_ σ4 91 199 i0 = 4 ∨ gP_ σ4 91 199 i0 = 5 then if i2 < gN_ σ4 91 then lt_ (sM_ σ4 91 1 i0 i2) fun σ10 => some σ10 else none else none else none else none else none
def m_X7_init (σ : st_T) (i0 : Nat) (a1 : Int32) (i2 : Nat) (i3 : Nat) : Option st_T := (m_X6_init σ i0 i2 i3).bind fun σ3 => if i0 < gN_ σ3 91 then if gP_ σ3 91 199 i0 = 2 then lt_ (sF_ σ3 91 2 i0 a1) fun σ6 => some σ6 else none else none
def m_X7_of_L59 (i0 : Nat) (σ : st_T) (t0 : Int32) : Option Int32 := some t0
def m_X7_of_L48 (i0 : Nat) (σ : st_T) (x1 : Int32) (x2 : Int32) : Option Int32 := if x2 = 0 then (m_X7_of_L59 i0) σ (0 : Int32) else if ¬ x2 = 0 then (m_X7_of_L59 i0) σ (x1 / x2) else none
def m_X7_of (σ : st_T) (i0 : Nat) (a1 : Int32) (a2 : Int32) : Option Int32 := if i0 < gN_ σ 91 then if gP_ σ 91 199 i0 = 2 then if (gF_ σ 91 2 i0) = (42 : Int32) then some (a1 * a2) else if (gF_ σ 91 2 i0) = (43 : Int32) then some (a1 + a2) else if (gF_ σ 91 2 i0) = (44 : Int32) then (m_X7_of_L48 i0) σ a1 a2 else if (gF_ σ 91 2 i0) = (45 : Int32) then some (a1 - a2) else (m_X7_of_L48 i0) σ a1 a2 else none else none
def m_X8_init (σ : st_T) (i0 : Nat) (a1 : Int32) : Option st_T := if i0 < gN_ σ 91 then if gP_ σ 91 199 i0 = 1 then lt_ (sF_ σ 91 0 i0 a1) fun σ3 => some σ3 else none else none
def m_X8_value (σ : st_T) (i0 : Nat) : Option Int32 := if i0 < gN_ σ 91 then if gP_ σ 91 199 i0 = 1 then if inb (gF_ σ 91 0 i0) 5 then some (gA_ σ 29 0 (gF_ σ 91 0 i0).toNatClampNeg) else none else none else none
def m_X9_init (σ : st_T) (i0 : Nat) (a1 : Int32) : Option st_T := if i0 < gN_ σ 91 then if gP_ σ 91 199 i0 = 0 then lt_ (sF_ σ 91 0 i0 a1) fun σ3 => some σ3 else none else none
def m_X9_value (σ : st_T) (i0 : Nat) : Option Int32 := if i0 < gN_ σ 91 then if gP_ σ 91 199 i0 = 0 then some (gF_ σ 91 0 i0) else none else none
noncomputable def m_X1_rents (σ : st_T) (a1 : Int32) (a2 : Int32) : Option ((Nat ⊕ Int32) × st_T) := (m_X1_cell a1).bind fun o3 => sm_ o3 (fun k4 => some ((.inl k4), (bX_ σ))) (fun v5 => (m_X1_cell a2).bind fun o8 => sm_ o8 (fun k9 => some ((.inl k9), (bX_ σ))) (fun v10 => bn2_ (m_X1_opens σ a1 a2) fun v13 σ14 => if cu_ σ ≤ cu_ σ14 ∧ su_ σ ≤ su_ σ14 then ck2_ σ14 (some ((.inr v13), σ14)) else none))
def m_X12_init (σ : st_T) (i0 : Nat) (a1 : Int32) (i2 : Nat) (i3 : Nat) : Option st_T := (m_X6_init σ i0 i2 i3).bind fun σ3 => if i0 < gN_ σ3 91 then if gP_ σ3 91 199 i0 = 5 then lt_ (sF_ σ3 91 2 i0 a1) fun σ6 => some σ6 else none else none
def m_X14_init (σ : st_T) (i0 : Nat) (i1 : Nat) (i2 : Nat) : Option st_T := (m_X6_init σ i0 i1 i2).bind fun σ3 => some σ3
def m_X15_init (σ : st_T) (i0 : Nat) (i1 : Nat) (i2 : Nat) : Option st_T := (m_X6_init σ i0 i1 i2).bind fun σ3 => some σ3
set_option maxHeartbeats 4000000 in
theorem c_X1_feed (g : wg_T) (hgm : gm g = true) (l : Launch) (L : ly_T) (σ : st_T) (a1 : Int32) (a2 : Int32) (a3 : Int32) (a4 : Int32) (a5 : Int32) (r_ : Int32) (σ_ : st_T) (hs : m_X1_feed σ a1 a2 a3 a4 a5 = some (r_, σ_)) : AI g l yX1_feed (ws_ yX1_feed cX1_feed 12 (some .int)) 2 60 [.ref (L 1 0), .int a1, .int a2, .int a3, .int a4, .int a5] L σ r_ σ_ := by
  refine wbody.met (by decide) (Nat.le_of_ble_eq_true rfl) ?_
  intro p e s m args below meth c ls hx hb hr hml hlocks hts hown hnm hW hl
  have hown : s.vm.findClass RX1 = some m.cls := hown
  obtain ⟨L0, hL0⟩ : ∃ L0, L0 = L := ⟨_, rfl⟩
  obtain ⟨σ0, hσ0⟩ : ∃ σ0, σ0 = σ := ⟨_, rfl⟩
  rw [← hσ0, ← hL0]
  have hx0 : lext L0 σ0 L σ := by rw [hL0, hσ0]; exact lext.refl
  have hcs : bk σ0 σ 0 0 := bk.start hσ0
  have hrm : 0 ≤ cu_ σ_ - cu_ σ0 ∧ 0 ≤ su_ σ_ - su_ σ0 := ⟨Nat.zero_le _, Nat.zero_le _⟩
  have hl : lv_has ls 12 [(0, .ref (L 1 0)), (1, .int a1), (2, .int a2), (3, .int a3), (4, .int a4), (5, .int a5)] := hl
  unfold m_X1_feed at hs
  have hL54 : ∀ (n54 : Nat), ∀ (L : ly_T) (σ : st_T) (ix7 : Nat) (x8 : Int32) (x9 : Int32) (H : Heap) (locs : List Loc) (cells slots : Nat) (ls : Array Slot), lext L0 σ0 L σ → bk σ0 σ cells slots → (cells ≤ cu_ σ_ - cu_ σ0 ∧ slots ≤ su_ σ_ - su_ σ0) → wv g L σ s H locs → lv_has ls 12 [(0, .ref (L 1 0)), (7, .ref (L 96 ix7)), (8, .int x8), (9, .int x9)] → (m_X1_feed_L54 n54) σ ix7 x8 x9 = some (r_, σ_) → W p l e (wrA 2 60 σ0 σ_) s m args below meth c H locs cells slots (MQ below (wAi g L0 σ0 r_ σ_) args s (cu_ σ_ - cu_ σ0) (su_ σ_ - su_ σ0) (fun q => gz g ≤ q)) (F0 m 54 ls []) := by
    intro n54
    induction n54 with
    | zero => intro L σ ix7 x8 x9 H locs cells slots ls hx0 hcs hrm hW hl hs; rw [m_X1_feed_L54] at hs; cases hs
    | succ n54 ih54 =>
      have hL72 : ∀ (n72 : Nat), ∀ (L : ly_T) (σ : st_T) (ix7 : Nat) (x8 : Int32) (x9 : Int32) (x10 : Int32) (x11 : Int32) (H : Heap) (locs : List Loc) (cells slots : Nat) (ls : Array Slot), lext L0 σ0 L σ → bk σ0 σ cells slots → (cells ≤ cu_ σ_ - cu_ σ0 ∧ slots ≤ su_ σ_ - su_ σ0) → wv g L σ s H locs → lv_has ls 12 [(0, .ref (L 1 0)), (7, .ref (L 96 ix7)), (8, .int x8), (9, .int x9), (10, .int x10), (11, .int x11)] → (m_X1_feed_L72 (m_X1_feed_L54 n54) n72) σ ix7 x8 x9 x10 x11 = some (r_, σ_) → W p l e (wrA 2 60 σ0 σ_) s m args below meth c H locs cells slots (MQ below (wAi g L0 σ0 r_ σ_) args s (cu_ σ_ - cu_ σ0) (su_ σ_ - su_ σ0) (fun q => gz g ≤ q)) (F0 m 72 ls []) := by
        intro n72
        induction n72 with
        | zero => intro L σ ix7 x8 x9 x10 x11 H locs cells slots ls hx0 hcs hrm hW hl hs; rw [m_X1_feed_L72] at hs; cases hs
        | succ n72 ih72 =>
          intro L σ ix7 x8 x9 x10 x11 H locs cells slots ls hx0 hcs hrm hW hl hs
          rw [m_X1_feed_L72] at hs
          refine lv_iload hx hb dX1_feed_72 (lv_at hl 5 rfl) ?_
          refine lv_if_lt (tgt := 105) hx hb dX1_feed_74 (by decide) (fun hc1 => ?_) (fun hc1 => ?_)
          · have hs := ww_T hs hc1
            refine lv_iinc (v := (x9 + (1 : Int32))) (lv' := [(9, .int (x9 + (1 : Int32))), (0, .ref (L 1 0)), (7, .ref (L 96 ix7)), (8, .int x8), (10, .int x10), (11, .int x11)]) hx hb dX1_feed_105 hl (k := 3) rfl rfl (by decide) rfl (fun ls hl => ?_)
            refine lv_goto (tgt := 54) hx hb dX1_feed_108 (by decide) ?_
            exact ih54 L σ ix7 x8 (x9 + (1 : Int32)) _ _ _ _ ls hx0 hcs hrm hW (lv_sub hl [1, 2, 3, 0] rfl) hs
          · have hs := ww_F hs hc1
            refine lv_aload_n hx hb dX1_feed_77 rfl (lv_at hl 0 rfl) ?_
            refine gf_X1_37 hx hb hts hown hW (pr_st (hW.rd hgm) (Nat.le_of_ble_eq_true rfl)) (hW.fl hgm (pr_st (hW.rd hgm) (Nat.le_of_ble_eq_true rfl)) 0 (by decide) rfl (by decide)) dX1_feed_78 ?_
            refine lv_aload_n hx hb dX1_feed_81 rfl (lv_at hl 0 rfl) ?_
            refine lv_dup hx hb dX1_feed_82 rfl ?_
            refine gf_X1_243 hx hb hts hown hW (pr_st (hW.rd hgm) (Nat.le_of_ble_eq_true rfl)) dX1_feed_83 ?_
            refine lv_dup_x1 hx hb dX1_feed_86 rfl rfl ?_
            refine lv_iconst (v := 1) hx hb dX1_feed_87 (by decide) ?_
            refine lv_iadd hx hb dX1_feed_88 ?_
            obtain ⟨σ2, e3, hs⟩ := ww_let hs
            refine pf_X1_243 hx hb hts hown hW (pr_st (hW.rd hgm) (Nat.le_of_ble_eq_true rfl)) dX1_feed_89 (fun H locs hW => ?_)
            have hW : wv g L σ2 s H locs := by rw [e3]; exact hW
            obtain ⟨hx0, hcs⟩ := lx_s (σ1 := σ2) hx0 hcs (by rw [e3]; exact kp_F)
            refine lv_iload hx hb dX1_feed_92 (lv_at hl 4 rfl) ?_
            refine lv_iload hx hb dX1_feed_94 (lv_at hl 5 rfl) ?_
            refine lv_ishr hx hb dX1_feed_96 ?_
            refine lv_i2b hx hb dX1_feed_97 rfl ?_
            obtain ⟨hc4, hs⟩ := ww_chk hs
            obtain ⟨σ5, e6, hs⟩ := ww_let hs
            refine ww_bast hx hb hW 10 0 (pr_st (hW.rd hgm) (Nat.le_of_ble_eq_true rfl)) rfl hc4 dX1_feed_98 (fun H locs hW => ?_)
            have hW : wv g L σ5 s H locs := by rw [e6]; exact hW
            obtain ⟨hx0, hcs⟩ := lx_s (σ1 := σ5) hx0 hcs (by rw [e6]; exact kp_E)
            refine lv_iinc (v := (x11 + (-8 : Int32))) (lv' := [(11, .int (x11 + (-8 : Int32))), (0, .ref (L 1 0)), (7, .ref (L 96 ix7)), (8, .int x8), (9, .int x9), (10, .int x10)]) hx hb dX1_feed_99 hl (k := 5) rfl rfl (by decide) rfl (fun ls hl => ?_)
            refine lv_goto (tgt := 72) hx hb dX1_feed_102 (by decide) ?_
            exact ih72 L σ5 ix7 x8 x9 x10 (x11 + (-8 : Int32)) _ _ _ _ ls hx0 hcs hrm hW (lv_sub hl [1, 2, 3, 4, 5, 0] rfl) hs
      intro L σ ix7 x8 x9 H locs cells slots ls hx0 hcs hrm hW hl hs
      rw [m_X1_feed_L54] at hs
      refine lv_iload hx hb dX1_feed_54 (lv_at hl 3 rfl) ?_
      refine lv_iload hx hb dX1_feed_56 (lv_at hl 2 rfl) ?_
      refine lv_icmp_ge (tgt := 111) hx hb dX1_feed_58 (by decide) (fun hc7 => ?_) (fun hc7 => ?_)
      · have hs := ww_T hs hc7
        refine lv_aload_n hx hb dX1_feed_111 rfl (lv_at hl 0 rfl) ?_
        refine gf_X1_243 hx hb hts hown hW (pr_st (hW.rd hgm) (Nat.le_of_ble_eq_true rfl)) dX1_feed_112 ?_
        have hs := ww_S hs
        exact wa_i hx hb hr hlocks hx0 hcs hW (congrArg Prod.fst hs) (congrArg Prod.snd hs) dX1_feed_115
      · have hs := ww_F hs hc7
        refine lv_aload hx hb dX1_feed_61 (lv_at hl 1 rfl) ?_
        refine lv_iload hx hb dX1_feed_63 (lv_at hl 3 rfl) ?_
        obtain ⟨hc8, hs⟩ := ww_chk hs
        obtain ⟨hc9, hs⟩ := ww_chk hs
        refine ww_iald hx hb hW 96 ix7 (pr_dy hc8 rfl rfl) rfl hc9 dX1_feed_65 ?_
        refine lv_istore (lv' := [(10, .int (gA_ σ 96 ix7 x9.toNatClampNeg)), (0, .ref (L 1 0)), (7, .ref (L 96 ix7)), (8, .int x8), (9, .int x9)]) hx hb dX1_feed_66 hl (by decide) rfl (fun ls hl => ?_)
        refine lv_bipush (v := 24) hx hb dX1_feed_68 (by decide) ?_
        refine lv_istore (lv' := [(11, .int (24 : Int32)), (10, .int (gA_ σ 96 ix7 x9.toNatClampNeg)), (0, .ref (L 1 0)), (7, .ref (L 96 ix7)), (8, .int x8), (9, .int x9)]) hx hb dX1_feed_70 hl (by decide) rfl (fun ls hl => ?_)
        exact hL72 fu_ L σ ix7 x8 x9 (gA_ σ 96 ix7 x9.toNatClampNeg) (24 : Int32) _ _ _ _ ls hx0 hcs hrm hW (lv_sub hl [2, 3, 4, 5, 1, 0] rfl) hs
  refine lv_aload_n hx hb dX1_feed_0 rfl (lv_at hl 0 rfl) ?_
  refine gf_X1_243 hx hb hts hown hW (pr_st (hW.rd hgm) (Nat.le_of_ble_eq_true rfl)) dX1_feed_1 ?_
  refine lv_bipush (v := 20) hx hb dX1_feed_4 (by decide) ?_
  refine lv_iadd hx hb dX1_feed_6 ?_
  refine lv_sipush (v := 400) hx hb dX1_feed_7 (by decide) ?_
  refine lv_icmp_le (tgt := 15) hx hb dX1_feed_10 (by decide) (fun hc10 => ?_) (fun hc10 => ?_)
  · have hs := ww_T hs hc10
    refine lv_iconst (v := 5) hx hb dX1_feed_15 (by decide) ?_
    have hp11 : pr σ 1 0 := (pr_st (hW.rd hgm) (Nat.le_of_ble_eq_true rfl))
    obtain ⟨σ12, e13, hs⟩ := ww_let hs
    obtain ⟨hs, hck⟩ := ww_ck2 hs
    have hrm1 := hcs.room (σ1 := σ12) (a := 1) (b := 5) (by rw [e13]; rfl) (by rw [e13]; rfl) hck
    refine ww_newa (atype := .int) hx hb (hts _ q201) hW 96 0 5 (Or.inl rfl) sole_96 (Or.inl rfl) rfl rfl rfl (by decide) rfl (Nat.le_of_ble_eq_true rfl) hrm1.1 hrm1.2 dX1_feed_16 (fun H L hx1 hW => ?_)
    rw [← e13] at hx1 hW
    have hcs := hcs.more (σ1 := σ12) (a := 1) (b := 5) (by rw [e13]; rfl) (by rw [e13]; rfl)
    have hrm := hrm1
    have hc14 : gN_ σ 96 < gN_ σ12 96 := by rw [e13]; exact nA_lt rfl
    rw [show ow_ 96 = 96 from rfl]
    have hl : lv_has ls 12 [(0, .ref (L 1 0)), (1, .int a1), (2, .int a2), (3, .int a3), (4, .int a4), (5, .int a5)] := by rw [hx1.at hp11 (by decide)]; exact hl
    have hx0 := hx0.trans hx1
    refine lv_dup hx hb dX1_feed_18 rfl ?_
    refine lv_iconst (v := 0) hx hb dX1_feed_19 (by decide) ?_
    refine lv_iload_n hx hb dX1_feed_20 rfl (lv_at hl 1 rfl) ?_
    obtain ⟨σ15, e16, hs⟩ := ww_let hs
    refine ww_iast hx hb hW 96 (gN_ σ 96) (pr_dy hc14 rfl rfl) rfl (vin_lit rfl) dX1_feed_21 (fun H locs hW => ?_)
    have hW : wv g L σ15 s H locs := by rw [e16]; exact hW
    obtain ⟨hx0, hcs⟩ := lx_s (σ1 := σ15) hx0 hcs (by rw [e16]; exact kp_E)
    have hc17 : (gN_ σ 96) < gN_ σ15 96 := by rw [e16]; exact hc14
    refine lv_dup hx hb dX1_feed_22 rfl ?_
    refine lv_iconst (v := 1) hx hb dX1_feed_23 (by decide) ?_
    refine lv_iload_n hx hb dX1_feed_24 rfl (lv_at hl 2 rfl) ?_
    obtain ⟨σ18, e19, hs⟩ := ww_let hs
    refine ww_iast hx hb hW 96 (gN_ σ 96) (pr_dy hc17 rfl rfl) rfl (vin_lit rfl) dX1_feed_25 (fun H locs hW => ?_)
    have hW : wv g L σ18 s H locs := by rw [e19]; exact hW
    obtain ⟨hx0, hcs⟩ := lx_s (σ1 := σ18) hx0 hcs (by rw [e19]; exact kp_E)
    have hc20 : (gN_ σ 96) < gN_ σ18 96 := by rw [e19]; exact hc17
    refine lv_dup hx hb dX1_feed_26 rfl ?_
    refine lv_iconst (v := 2) hx hb dX1_feed_27 (by decide) ?_
    refine lv_iload_n hx hb dX1_feed_28 rfl (lv_at hl 3 rfl) ?_
    obtain ⟨σ21, e22, hs⟩ := ww_let hs
    refine ww_iast hx hb hW 96 (gN_ σ 96) (pr_dy hc20 rfl rfl) rfl (vin_lit rfl) dX1_feed_29 (fun H locs hW => ?_)
    have hW : wv g L σ21 s H locs := by rw [e22]; exact hW
    obtain ⟨hx0, hcs⟩ := lx_s (σ1 := σ21) hx0 hcs (by rw [e22]; exact kp_E)
    have hc23 : (gN_ σ 96) < gN_ σ21 96 := by rw [e22]; exact hc20
    refine lv_dup hx hb dX1_feed_30 rfl ?_
    refine lv_iconst (v := 3) hx hb dX1_feed_31 (by decide) ?_
    refine lv_iload hx hb dX1_feed_32 (lv_at hl 4 rfl) ?_
    obtain ⟨σ24, e25, hs⟩ := ww_let hs
    refine ww_iast hx hb hW 96 (gN_ σ 96) (pr_dy hc23 rfl rfl) rfl (vin_lit rfl) dX1_feed_34 (fun H locs hW => ?_)
    have hW : wv g L σ24 s H locs := by rw [e25]; exact hW
    obtain ⟨hx0, hcs⟩ := lx_s (σ1 := σ24) hx0 hcs (by rw [e25]; exact kp_E)
    have hc26 : (gN_ σ 96) < gN_ σ24 96 := by rw [e25]; exact hc23
    refine lv_dup hx hb dX1_feed_35 rfl ?_
    refine lv_iconst (v := 4) hx hb dX1_feed_36 (by decide) ?_
    refine lv_iload hx hb dX1_feed_37 (lv_at hl 5 rfl) ?_
    obtain ⟨σ27, e28, hs⟩ := ww_let hs
    refine ww_iast hx hb hW 96 (gN_ σ 96) (pr_dy hc26 rfl rfl) rfl (vin_lit rfl) dX1_feed_39 (fun H locs hW => ?_)
    have hW : wv g L σ27 s H locs := by rw [e28]; exact hW
    obtain ⟨hx0, hcs⟩ := lx_s (σ1 := σ27) hx0 hcs (by rw [e28]; exact kp_E)
    have hc29 : (gN_ σ 96) < gN_ σ27 96 := by rw [e28]; exact hc26
    refine lv_astore (lv' := [(6, .ref (L 96 (gN_ σ 96))), (0, .ref (L 1 0)), (1, .int a1), (2, .int a2), (3, .int a3), (4, .int a4), (5, .int a5)]) hx hb dX1_feed_40 hl (by decide) rfl (fun ls hl => ?_)
    refine lv_aload hx hb dX1_feed_42 (lv_at hl 0 rfl) ?_
    refine lv_astore (lv' := [(7, .ref (L 96 (gN_ σ 96))), (6, .ref (L 96 (gN_ σ 96))), (0, .ref (L 1 0)), (1, .int a1), (2, .int a2), (3, .int a3), (4, .int a4), (5, .int a5)]) hx hb dX1_feed_44 hl (by decide) rfl (fun ls hl => ?_)
    refine lv_aload hx hb dX1_feed_46 (lv_at hl 0 rfl) ?_
    refine ww_alen (v := 5) hx hb hW 96 (gN_ σ 96) (pr_dy hc29 rfl rfl) rfl rfl rfl dX1_feed_48 ?_
    refine lv_istore (lv' := [(8, .int (5 : Int32)), (7, .ref (L 96 (gN_ σ 96))), (6, .ref (L 96 (gN_ σ 96))), (0, .ref (L 1 0)), (1, .int a1), (2, .int a2), (3, .int a3), (4, .int a4), (5, .int a5)]) hx hb dX1_feed_49 hl (by decide) rfl (fun ls hl => ?_)
    refine lv_iconst (v := 0) hx hb dX1_feed_51 (by decide) ?_
    refine lv_istore (lv' := [(9, .int (0 : Int32)), (8, .int (5 : Int32)), (7, .ref (L 96 (gN_ σ 96))), (6, .ref (L 96 (gN_ σ 96))), (0, .ref (L 1 0)), (1, .int a1), (2, .int a2), (3, .int a3), (4, .int a4), (5, .int a5)]) hx hb dX1_feed_52 hl (by decide) rfl (fun ls hl => ?_)
    exact hL54 fu_ L σ27 (gN_ σ 96) (5 : Int32) (0 : Int32) _ _ _ _ ls hx0 hcs hrm hW (lv_sub hl [4, 2, 1, 0] rfl) hs
  · have hs := ww_F hs hc10
    refine lv_iconst (v := (-1)) hx hb dX1_feed_13 (by decide) ?_
    have hs := ww_S hs
    exact wa_i hx hb hr hlocks hx0 hcs hW (congrArg Prod.fst hs) (congrArg Prod.snd hs) dX1_feed_14
set_option maxHeartbeats 4000000 in
theorem c_X1_build (g : wg_T) (hgm : gm g = true) (l : Launch) (L : ly_T) (σ : st_T) (a1 : Int32) (a2 : Int32) (hst : l.stackTraces = false) (o_ : Nat ⊕ Int32) (σ_ : st_T) (hs : m_X1_build σ a1 a2 = some (o_, σ_)) : YI g l yX1_build (ws_ yX1_build cX1_build 12 (some .int)) 10 232 [.ref (L 1 0), .int a1, .int a2] L σ o_ σ_ := by
  refine xbody.met (by decide) (Nat.le_of_ble_eq_true rfl) ?_
  intro p e s m args below meth c ls hx hb hr hml hlocks hts hown hnm hout hW hl
  have hown : s.vm.findClass RX1 = some m.cls := hown
  obtain ⟨L0, hL0⟩ : ∃ L0, L0 = L := ⟨_, rfl⟩
  obtain ⟨σ0, hσ0⟩ : ∃ σ0, σ0 = σ := ⟨_, rfl⟩
  rw [← hσ0, ← hL0]
  have hx0 : lext L0 σ0 L σ := by rw [hL0, hσ0]; exact lext.refl
  have hcs : bk σ0 σ 0 0 := bk.start hσ0
  have hrm : 0 ≤ cu_ σ_ - cu_ σ0 ∧ 0 ≤ su_ σ_ - su_ σ0 := ⟨Nat.zero_le _, Nat.zero_le _⟩
  have hl : lv_has ls 12 [(0, .ref (L 1 0)), (1, .int a1), (2, .int a2)] := hl
  unfold m_X1_build at hs
  have hL18 : ∀ (L : ly_T) (σ : st_T) (x1 : Int32) (x2 : Int32) (t0 : Int32) (H : Heap) (locs : List Loc) (cells slots : Nat) (ls : Array Slot), lext L0 σ0 L σ → bk σ0 σ cells slots → (cells ≤ cu_ σ_ - cu_ σ0 ∧ slots ≤ su_ σ_ - su_ σ0) → wv g L σ s H locs → lv_has ls 12 [(0, .ref (L 1 0)), (1, .int x1), (2, .int x2)] → m_X1_build_L18 σ x1 x2 t0 = some (o_, σ_) → W p l e (wrA 10 232 σ0 σ_) s m args below meth c H locs cells slots (vx_MQ below (yXi g L0 σ0 o_ σ_) (yX g L0 σ0 o_ σ_) args s (cu_ σ_ - cu_ σ0) (su_ σ_ - su_ σ0) (fun q => gz g ≤ q)) (F0 m 18 ls [.int t0]) := by
    have hL53 : ∀ (n53 : Nat), ∀ (L : ly_T) (σ : st_T) (x1 : Int32) (x2 : Int32) (ix3 : Nat) (x4 : Int32) (x5 : Int32) (x6 : Int32) (x7 : Int32) (x8 : Int32) (H : Heap) (locs : List Loc) (cells slots : Nat) (ls : Array Slot), lext L0 σ0 L σ → bk σ0 σ cells slots → (cells ≤ cu_ σ_ - cu_ σ0 ∧ slots ≤ su_ σ_ - su_ σ0) → wv g L σ s H locs → lv_has ls 12 [(0, .ref (L 1 0)), (1, .int x1), (2, .int x2), (3, .ref (L 97 ix3)), (4, .int x4), (5, .int x5), (6, .int x6), (7, .int x7), (8, .int x8)] → (m_X1_build_L53 n53) σ x1 x2 ix3 x4 x5 x6 x7 x8 = some (o_, σ_) → W p l e (wrA 10 232 σ0 σ_) s m args below meth c H locs cells slots (vx_MQ below (yXi g L0 σ0 o_ σ_) (yX g L0 σ0 o_ σ_) args s (cu_ σ_ - cu_ σ0) (su_ σ_ - su_ σ0) (fun q => gz g ≤ q)) (F0 m 53 ls []) := by
      intro n53
      induction n53 with
      | zero => intro L σ x1 x2 ix3 x4 x5 x6 x7 x8 H locs cells slots ls hx0 hcs hrm hW hl hs; rw [m_X1_build_L53] at hs; cases hs
      | succ n53 ih53 =>
        have hL79 : ∀ (n79 : Nat), ∀ (L : ly_T) (σ : st_T) (x1 : Int32) (x2 : Int32) (ix3 : Nat) (x5 : Int32) (x6 : Int32) (x7 : Int32) (x8 : Int32) (H : Heap) (locs : List Loc) (cells slots : Nat) (ls : Array Slot), lext L0 σ0 L σ → bk σ0 σ cells slots → (cells ≤ cu_ σ_ - cu_ σ0 ∧ slots ≤ su_ σ_ - su_ σ0) → wv g L σ s H locs → lv_has ls 12 [(0, .ref (L 1 0)), (1, .int x1), (2, .int x2), (3, .ref (L 97 ix3)), (5, .int x5), (6, .int x6), (7, .int x7), (8, .int x8)] → (m_X1_build_L79 n79) σ x1 x2 ix3 x5 x6 x7 x8 = some (o_, σ_) → W p l e (wrA 10 232 σ0 σ_) s m args below meth c H locs cells slots (vx_MQ below (yXi g L0 σ0 o_ σ_) (yX g L0 σ0 o_ σ_) args s (cu_ σ_ - cu_ σ0) (su_ σ_ - su_ σ0) (fun q => gz g ≤ q)) (F0 m 79 ls []) := by
          intro n79
          induction n79 with
          | zero => intro L σ x1 x2 ix3 x5 x6 x7 x8 H locs cells slots ls hx0 hcs hrm hW hl hs; rw [m_X1_build_L79] at hs; cases hs
          | succ n79 ih79 =>
            have hL247 : ∀ (L : ly_T) (σ : st_T) (t0 : Int32) (H : Heap) (locs : List Loc) (cells slots : Nat) (ls : Array Slot), lext L0 σ0 L σ → bk σ0 σ cells slots → (cells ≤ cu_ σ_ - cu_ σ0 ∧ slots ≤ su_ σ_ - su_ σ0) → wv g L σ s H locs → lv_has ls 12 [] → m_X1_build_L247 σ t0 = some (o_, σ_) → W p l e (wrA 10 232 σ0 σ_) s m args below meth c H locs cells slots (vx_MQ below (yXi g L0 σ0 o_ σ_) (yX g L0 σ0 o_ σ_) args s (cu_ σ_ - cu_ σ0) (su_ σ_ - su_ σ0) (fun q => gz g ≤ q)) (F0 m 247 ls [.int t0]) := by
              intro L σ t0 H locs cells slots ls hx0 hcs hrm hW hl hs
              unfold m_X1_build_L247 at hs
              have hs := ww_S hs
              exact wz_i hx hb hr hlocks hx0 hcs hW (congrArg Prod.fst hs) (congrArg Prod.snd hs) dX1_build_247
            have hL89 : ∀ (n89 : Nat), ∀ (L : ly_T) (σ : st_T) (x1 : Int32) (x2 : Int32) (ix3 : Nat) (x5 : Int32) (x6 : Int32) (x7 : Int32) (x8 : Int32) (x9 : Int32) (H : Heap) (locs : List Loc) (cells slots : Nat) (ls : Array Slot), lext L0 σ0 L σ → bk σ0 σ cells slots → (cells ≤ cu_ σ_ - cu_ σ0 ∧ slots ≤ su_ σ_ - su_ σ0) → wv g L σ s H locs → lv_has ls 12 [(0, .ref (L 1 0)), (1, .int x1), (2, .int x2), (3, .ref (L 97 ix3)), (5, .int x5), (6, .int x6), (7, .int x7), (8, .int x8), (9, .int x9)] → (m_X1_build_L89 (m_X1_build_L79 n79) n89) σ x1 x2 ix3 x5 x6 x7 x8 x9 = some (o_, σ_) → W p l e (wrA 10 232 σ0 σ_) s m args below meth c H locs cells slots (vx_MQ below (yXi g L0 σ0 o_ σ_) (yX g L0 σ0 o_ σ_) args s (cu_ σ_ - cu_ σ0) (su_ σ_ - su_ σ0) (fun q => gz g ≤ q)) (F0 m 89 ls []) := by
              intro n89
              induction n89 with
              | zero => intro L σ x1 x2 ix3 x5 x6 x7 x8 x9 H locs cells slots ls hx0 hcs hrm hW hl hs; rw [m_X1_build_L89] at hs; cases hs
              | succ n89 ih89 =>
                have hL204 : ∀ (L : ly_T) (σ : st_T) (x1 : Int32) (x2 : Int32) (ix3 : Nat) (x5 : Int32) (x6 : Int32) (x7 : Int32) (x8 : Int32) (x9 : Int32) (H : Heap) (locs : List Loc) (cells slots : Nat) (ls : Array Slot), lext L0 σ0 L σ → bk σ0 σ cells slots → (cells ≤ cu_ σ_ - cu_ σ0 ∧ slots ≤ su_ σ_ - su_ σ0) → wv g L σ s H locs → lv_has ls 12 [(0, .ref (L 1 0)), (1, .int x1), (2, .int x2), (3, .ref (L 97 ix3)), (5, .int x5), (6, .int x6), (7, .int x7), (8, .int x8), (9, .int x9)] → (m_X1_build_L204 (m_X1_build_L89 (m_X1_build_L79 n79) n89)) σ x1 x2 ix3 x5 x6 x7 x8 x9 = some (o_, σ_) → W p l e (wrA 10 232 σ0 σ_) s m args below meth c H locs cells slots (vx_MQ below (yXi g L0 σ0 o_ σ_) (yX g L0 σ0 o_ σ_) args s (cu_ σ_ - cu_ σ0) (su_ σ_ - su_ σ0) (fun q => gz g ≤ q)) (F0 m 204 ls []) := by
                  intro L σ x1 x2 ix3 x5 x6 x7 x8 x9 H locs cells slots ls hx0 hcs hrm hW hl hs
                  unfold m_X1_build_L204 at hs
                  refine lv_iinc (v := (x9 + (1 : Int32))) (lv' := [(9, .int (x9 + (1 : Int32))), (0, .ref (L 1 0)), (1, .int x1), (2, .int x2), (3, .ref (L 97 ix3)), (5, .int x5), (6, .int x6), (7, .int x7), (8, .int x8)]) hx hb dX1_build_204 hl (k := 8) rfl rfl (by decide) rfl (fun ls hl => ?_)
                  refine lv_goto (tgt := 89) hx hb dX1_build_207 (by decide) ?_
                  exact ih89 L σ x1 x2 ix3 x5 x6 x7 x8 (x9 + (1 : Int32)) _ _ _ _ ls hx0 hcs hrm hW (lv_sub hl [1, 2, 3, 4, 5, 6, 7, 8, 0] rfl) hs
                have hL124 : ∀ (L : ly_T) (σ : st_T) (x1 : Int32) (x2 : Int32) (ix3 : Nat) (x5 : Int32) (x6 : Int32) (x7 : Int32) (x8 : Int32) (x9 : Int32) (x10 : Int32) (H : Heap) (locs : List Loc) (cells slots : Nat) (ls : Array Slot), lext L0 σ0 L σ → bk σ0 σ cells slots → (cells ≤ cu_ σ_ - cu_ σ0 ∧ slots ≤ su_ σ_ - su_ σ0) → wv g L σ s H locs → lv_has ls 12 [(0, .ref (L 1 0)), (1, .int x1), (2, .int x2), (3, .ref (L 97 ix3)), (5, .int x5), (6, .int x6), (7, .int x7), (8, .int x8), (9, .int x9), (10, .int x10)] → (m_X1_build_L124 (m_X1_build_L204 (m_X1_build_L89 (m_X1_build_L79 n79) n89))) σ x1 x2 ix3 x5 x6 x7 x8 x9 x10 = some (o_, σ_) → W p l e (wrA 10 232 σ0 σ_) s m args below meth c H locs cells slots (vx_MQ below (yXi g L0 σ0 o_ σ_) (yX g L0 σ0 o_ σ_) args s (cu_ σ_ - cu_ σ0) (su_ σ_ - su_ σ0) (fun q => gz g ≤ q)) (F0 m 124 ls []) := by
                  intro L σ x1 x2 ix3 x5 x6 x7 x8 x9 x10 H locs cells slots ls hx0 hcs hrm hW hl hs
                  unfold m_X1_build_L124 at hs
                  refine lv_aload_n hx hb dX1_build_124 rfl (lv_at hl 0 rfl) ?_
                  refine gf_X1_44 hx hb hts hown hW (pr_st (hW.rd hgm) (Nat.le_of_ble_eq_true rfl)) (hW.fl hgm (pr_st (hW.rd hgm) (Nat.le_of_ble_eq_true rfl)) 1 (by decide) rfl (by decide)) dX1_build_125 ?_
                  refine lv_iload hx hb dX1_build_128 (lv_at hl 7 rfl) ?_
                  obtain ⟨v3, hc1, hs⟩ := ww_bnd hs
                  refine ww_ci (va_runV (As := [.int x8]) (rest := []) ⟨hx, hb, hml, hown, hts⟩ (c_X2_isOpen g hgm l L σ 0 x8 _ hc1) (cwV 1 hts (lw_V q1246 q548 q549 q112 q550) rfl rfl rfl hd_X2_isOpen ⟨(Nat.le_of_ble_eq_true rfl), (Nat.le_of_ble_eq_true rfl)⟩) (ww_preV hW (pr_st (hW.rd hgm) (Nat.le_of_ble_eq_true rfl)) (obv_0 rfl) rfl) rfl rfl hl.1 rfl (lv_room (Nat.le_of_ble_eq_true rfl)) dX1_build_130 hrm) hW (fun H locs hW => ?_)
                  refine lv_if_eq (tgt := 204) hx hb dX1_build_133 (by decide) (fun hc4 => ?_) (fun hc4 => ?_)
                  · have hs := ww_T hs hc4
                    exact hL204 L σ x1 x2 ix3 x5 x6 x7 x8 x9 _ _ _ _ ls hx0 hcs hrm hW (lv_sub hl [0, 1, 2, 3, 4, 5, 6, 7, 8] rfl) hs
                  · have hs := ww_F hs hc4
                    refine lv_aload_n hx hb dX1_build_136 rfl (lv_at hl 0 rfl) ?_
                    refine gf_X1_44 hx hb hts hown hW (pr_st (hW.rd hgm) (Nat.le_of_ble_eq_true rfl)) (hW.fl hgm (pr_st (hW.rd hgm) (Nat.le_of_ble_eq_true rfl)) 1 (by decide) rfl (by decide)) dX1_build_137 ?_
                    refine lv_iload hx hb dX1_build_140 (lv_at hl 9 rfl) ?_
                    obtain ⟨v7, hc5, hs⟩ := ww_bnd hs
                    refine ww_ci (va_runV (As := [.int x10]) (rest := []) ⟨hx, hb, hml, hown, hts⟩ (c_X2_isOpen g hgm l L σ 0 x10 _ hc5) (cwV 1 hts (lw_V q1246 q548 q549 q112 q550) rfl rfl rfl hd_X2_isOpen ⟨(Nat.le_of_ble_eq_true rfl), (Nat.le_of_ble_eq_true rfl)⟩) (ww_preV hW (pr_st (hW.rd hgm) (Nat.le_of_ble_eq_true rfl)) (obv_0 rfl) rfl) rfl rfl hl.1 rfl (lv_room (Nat.le_of_ble_eq_true rfl)) dX1_build_142 hrm) hW (fun H locs hW => ?_)
                    refine lv_if_ne (tgt := 151) hx hb dX1_build_145 (by decide) (fun hc8 => ?_) (fun hc8 => ?_)
                    · have hs := ww_F hs hc8
                      refine lv_aload_n hx hb dX1_build_151 rfl (lv_at hl 0 rfl) ?_
                      refine gf_X1_48 hx hb hts hown hW (pr_st (hW.rd hgm) (Nat.le_of_ble_eq_true rfl)) (hW.fl hgm (pr_st (hW.rd hgm) (Nat.le_of_ble_eq_true rfl)) 2 (by decide) rfl (by decide)) dX1_build_152 ?_
                      refine lv_aload_n hx hb dX1_build_155 rfl (lv_at hl 0 rfl) ?_
                      refine gf_X1_44 hx hb hts hown hW (pr_st (hW.rd hgm) (Nat.le_of_ble_eq_true rfl)) (hW.fl hgm (pr_st (hW.rd hgm) (Nat.le_of_ble_eq_true rfl)) 1 (by decide) rfl (by decide)) dX1_build_156 ?_
                      obtain ⟨σ11, hc9, hs⟩ := ww_bnd hs
                      obtain ⟨hkp, hs⟩ := ww_pif hs
                      obtain ⟨hx0, hcs⟩ := lx_s hx0 hcs hkp
                      refine ww_cv (va_runV (As := [.ref (L 50 0)]) (rest := []) ⟨hx, hb, hml, hown, hts⟩ (c_X2_like g hgm l L σ 1 0 _ hc9) (cwV 1 hts (lw_V q489 q490 q491 q112 q492) rfl rfl rfl hd_X2_like ⟨(Nat.le_of_ble_eq_true rfl), (Nat.le_of_ble_eq_true rfl)⟩) (ww_preV hW (pr_st (hW.rd hgm) (Nat.le_of_ble_eq_true rfl)) (obv_0 rfl) rfl) rfl rfl hl.1 rfl (lv_room (Nat.le_of_ble_eq_true rfl)) dX1_build_159 hrm) hW (fun H locs hW => ?_)
                      refine lv_aload_n hx hb dX1_build_162 rfl (lv_at hl 0 rfl) ?_
                      refine gf_X1_48 hx hb hts hown hW (pr_st (hW.rd hgm) (Nat.le_of_ble_eq_true rfl)) (hW.fl hgm (pr_st (hW.rd hgm) (Nat.le_of_ble_eq_true rfl)) 2 (by decide) rfl (by decide)) dX1_build_163 ?_
                      refine lv_iload hx hb dX1_build_166 (lv_at hl 7 rfl) ?_
                      refine lv_iload hx hb dX1_build_168 (lv_at hl 9 rfl) ?_
                      refine lv_bipush (v := 100) hx hb dX1_build_170 (by decide) ?_
                      obtain ⟨σ14, hc12, hs⟩ := ww_bnd hs
                      obtain ⟨hkp, hs⟩ := ww_pif hs
                      obtain ⟨hx0, hcs⟩ := lx_s hx0 hcs hkp
                      refine ww_cv (va_runV (As := [.int x8, .int x10, .int (100 : Int32)]) (rest := []) ⟨hx, hb, hml, hown, hts⟩ (c_X2_fence_2 g hgm l L σ11 1 x8 x10 (100 : Int32) _ hc12) (cwV 3 hts (lw_V q579 q580 q581 q112 q582) rfl rfl rfl hd_X2_fence_2 ⟨(Nat.le_of_ble_eq_true rfl), (Nat.le_of_ble_eq_true rfl)⟩) (ww_preV hW (pr_st (hW.rd hgm) (Nat.le_of_ble_eq_true rfl)) (obv_0 rfl) rfl) rfl rfl hl.1 rfl (lv_room (Nat.le_of_ble_eq_true rfl)) dX1_build_172 hrm) hW (fun H locs hW => ?_)
                      refine lv_aload_n hx hb dX1_build_175 rfl (lv_at hl 0 rfl) ?_
                      refine lv_iload_n hx hb dX1_build_176 rfl (lv_at hl 1 rfl) ?_
                      obtain ⟨v17, σ18, hc15, hs⟩ := ww_bn2 hs
                      obtain ⟨hkp, hs⟩ := ww_pif hs
                      obtain ⟨hx0, hcs⟩ := lx_s hx0 hcs hkp
                      refine ww_ci (va_runV (As := [.int x1]) (rest := []) ⟨hx, hb, hml, hown, hts⟩ (c_X1_foretells g hgm l L σ14 x1 _ _ hc15) (cwV 1 hts (lw_V q599 q601 qs5 q111 q602) rfl rfl rfl hd_X1_foretells ⟨(Nat.le_of_ble_eq_true rfl), (Nat.le_of_ble_eq_true rfl)⟩) (ww_preV hW (pr_st (hW.rd hgm) (Nat.le_of_ble_eq_true rfl)) (obv_0 rfl) rfl) rfl rfl hl.1 rfl (lv_room (Nat.le_of_ble_eq_true rfl)) dX1_build_177 hrm) hW (fun H locs hW => ?_)
                      refine lv_istore (lv' := [(11, .int v17), (0, .ref (L 1 0)), (1, .int x1), (2, .int x2), (3, .ref (L 97 ix3)), (5, .int x5), (6, .int x6), (7, .int x7), (8, .int x8), (9, .int x9), (10, .int x10)]) hx hb dX1_build_180 hl (by decide) rfl (fun ls hl => ?_)
                      refine lv_iload hx hb dX1_build_182 (lv_at hl 0 rfl) ?_
                      refine lv_iload hx hb dX1_build_184 (lv_at hl 5 rfl) ?_
                      refine lv_icmp_lt (tgt := 192) hx hb dX1_build_186 (by decide) (fun hc19 => ?_) (fun hc19 => ?_)
                      · have hs := ww_T hs hc19
                        refine lv_iload hx hb dX1_build_192 (lv_at hl 0 rfl) ?_
                        refine lv_istore (lv' := [(5, .int v17), (11, .int v17), (0, .ref (L 1 0)), (1, .int x1), (2, .int x2), (3, .ref (L 97 ix3)), (6, .int x6), (7, .int x7), (8, .int x8), (9, .int x9), (10, .int x10)]) hx hb dX1_build_194 hl (by decide) rfl (fun ls hl => ?_)
                        refine lv_iload hx hb dX1_build_196 (lv_at hl 8 rfl) ?_
                        refine lv_istore (lv' := [(6, .int x8), (5, .int v17), (11, .int v17), (0, .ref (L 1 0)), (1, .int x1), (2, .int x2), (3, .ref (L 97 ix3)), (7, .int x7), (8, .int x8), (9, .int x9), (10, .int x10)]) hx hb dX1_build_198 hl (by decide) rfl (fun ls hl => ?_)
                        refine lv_iload hx hb dX1_build_200 (lv_at hl 10 rfl) ?_
                        refine lv_istore (lv' := [(7, .int x10), (6, .int x8), (5, .int v17), (11, .int v17), (0, .ref (L 1 0)), (1, .int x1), (2, .int x2), (3, .ref (L 97 ix3)), (8, .int x8), (9, .int x9), (10, .int x10)]) hx hb dX1_build_202 hl (by decide) rfl (fun ls hl => ?_)
                        exact hL204 L σ18 x1 x2 ix3 v17 x8 x10 x8 x9 _ _ _ _ ls hx0 hcs hrm hW (lv_sub hl [4, 5, 6, 7, 2, 1, 0, 8, 9] rfl) hs
                      · have hs := ww_F hs hc19
                        refine lv_goto (tgt := 204) hx hb dX1_build_189 (by decide) ?_
                        exact hL204 L σ18 x1 x2 ix3 x5 x6 x7 x8 x9 _ _ _ _ ls hx0 hcs hrm hW (lv_sub hl [1, 2, 3, 4, 5, 6, 7, 8, 9] rfl) hs
                    · have hs := ww_T hs hc8
                      refine lv_goto (tgt := 204) hx hb dX1_build_148 (by decide) ?_
                      exact hL204 L σ x1 x2 ix3 x5 x6 x7 x8 x9 _ _ _ _ ls hx0 hcs hrm hW (lv_sub hl [0, 1, 2, 3, 4, 5, 6, 7, 8] rfl) hs
                intro L σ x1 x2 ix3 x5 x6 x7 x8 x9 H locs cells slots ls hx0 hcs hrm hW hl hs
                rw [m_X1_build_L89] at hs
                refine lv_iload hx hb dX1_build_89 (lv_at hl 8 rfl) ?_
                refine lv_iconst (v := 4) hx hb dX1_build_91 (by decide) ?_
                refine lv_icmp_ge (tgt := 210) hx hb dX1_build_92 (by decide) (fun hc20 => ?_) (fun hc20 => ?_)
                · have hs := ww_T hs hc20
                  refine lv_iinc (v := (x8 + (1 : Int32))) (lv' := [(8, .int (x8 + (1 : Int32))), (0, .ref (L 1 0)), (1, .int x1), (2, .int x2), (3, .ref (L 97 ix3)), (5, .int x5), (6, .int x6), (7, .int x7), (9, .int x9)]) hx hb dX1_build_210 hl (k := 7) rfl rfl (by decide) rfl (fun ls hl => ?_)
                  refine lv_goto (tgt := 79) hx hb dX1_build_213 (by decide) ?_
                  exact ih79 L σ x1 x2 ix3 x5 x6 x7 (x8 + (1 : Int32)) _ _ _ _ ls hx0 hcs hrm hW (lv_sub hl [1, 2, 3, 4, 5, 6, 7, 0] rfl) hs
                · have hs := ww_F hs hc20
                  refine lv_iload hx hb dX1_build_95 (lv_at hl 7 rfl) ?_
                  refine lv_iload hx hb dX1_build_97 (lv_at hl 8 rfl) ?_
                  obtain ⟨v23, hc21, hs⟩ := ww_bnd hs
                  refine ww_ci (va_runS (As := [.int x8, .int x9]) (rest := []) ⟨hx, hb, hml, hown, hts⟩ (c_X1_next g hgm l L σ x8 x9 _ hc21) (va_cwS 2 hts (lw_S q926 q508 q111 q509) rfl rfl rfl hd_X1_next.2 ⟨(Nat.le_of_ble_eq_true rfl), (Nat.le_of_ble_eq_true rfl)⟩) (ww_preS hW) rfl rfl hl.1 rfl (lv_room (Nat.le_of_ble_eq_true rfl)) dX1_build_99 hrm) hW (fun H locs hW => ?_)
                  refine lv_istore (lv' := [(10, .int v23), (0, .ref (L 1 0)), (1, .int x1), (2, .int x2), (3, .ref (L 97 ix3)), (5, .int x5), (6, .int x6), (7, .int x7), (8, .int x8), (9, .int x9)]) hx hb dX1_build_102 hl (by decide) rfl (fun ls hl => ?_)
                  refine lv_iload hx hb dX1_build_104 (lv_at hl 0 rfl) ?_
                  refine lv_iconst (v := (-1)) hx hb dX1_build_106 (by decide) ?_
                  refine lv_icmp_eq (tgt := 204) hx hb dX1_build_107 (by decide) (fun hc24 => ?_) (fun hc24 => ?_)
                  · have hs := ww_T hs hc24
                    exact hL204 L σ x1 x2 ix3 x5 x6 x7 x8 x9 _ _ _ _ ls hx0 hcs hrm hW (lv_sub hl [1, 2, 3, 4, 5, 6, 7, 8, 9] rfl) hs
                  · have hs := ww_F hs hc24
                    refine lv_aload_n hx hb dX1_build_110 rfl (lv_at hl 4 rfl) ?_
                    refine lv_iload hx hb dX1_build_111 (lv_at hl 8 rfl) ?_
                    obtain ⟨hc25, hs⟩ := ww_chk hs
                    obtain ⟨hc26, hs⟩ := ww_chk hs
                    refine ww_zald hx hb hW 97 ix3 (pr_dy hc25 rfl rfl) rfl hc26 dX1_build_113 ?_
                    refine lv_if_ne (tgt := 124) hx hb dX1_build_114 (by decide) (fun hc27 => ?_) (fun hc27 => ?_)
                    · have hs := ww_F hs hc27
                      exact hL124 L σ x1 x2 ix3 x5 x6 x7 x8 x9 v23 _ _ _ _ ls hx0 hcs hrm hW (lv_sub hl [1, 2, 3, 4, 5, 6, 7, 8, 9, 0] rfl) hs
                    · have hs := ww_T hs hc27
                      refine lv_aload_n hx hb dX1_build_117 rfl (lv_at hl 4 rfl) ?_
                      refine lv_iload hx hb dX1_build_118 (lv_at hl 0 rfl) ?_
                      obtain ⟨hc28, hs⟩ := ww_chk hs
                      refine ww_zald hx hb hW 97 ix3 (pr_dy hc25 rfl rfl) rfl hc28 dX1_build_120 ?_
                      refine lv_if_eq (tgt := 204) hx hb dX1_build_121 (by decide) (fun hc29 => ?_) (fun hc29 => ?_)
                      · have hs := ww_T hs hc29
                        exact hL204 L σ x1 x2 ix3 x5 x6 x7 x8 x9 _ _ _ _ ls hx0 hcs hrm hW (lv_sub hl [1, 2, 3, 4, 5, 6, 7, 8, 9] rfl) hs
                      · have hs := ww_F hs hc29
                        exact hL124 L σ x1 x2 ix3 x5 x6 x7 x8 x9 v23 _ _ _ _ ls hx0 hcs hrm hW (lv_sub hl [1, 2, 3, 4, 5, 6, 7, 8, 9, 0] rfl) hs
            intro L σ x1 x2 ix3 x5 x6 x7 x8 H locs cells slots ls hx0 hcs hrm hW hl hs
            rw [m_X1_build_L79] at hs
            refine lv_iload hx hb dX1_build_79 (lv_at hl 7 rfl) ?_
            refine lv_bipush (v := 64) hx hb dX1_build_81 (by decide) ?_
            refine lv_icmp_ge (tgt := 216) hx hb dX1_build_83 (by decide) (fun hc30 => ?_) (fun hc30 => ?_)
            · have hs := ww_T hs hc30
              refine lv_iload hx hb dX1_build_216 (lv_at hl 5 rfl) ?_
              refine lv_iconst (v := (-1)) hx hb dX1_build_218 (by decide) ?_
              refine lv_icmp_ne (tgt := 226) hx hb dX1_build_219 (by decide) (fun hc31 => ?_) (fun hc31 => ?_)
              · have hs := ww_F hs hc31
                refine lv_iload_n hx hb dX1_build_226 rfl (lv_at hl 2 rfl) ?_
                refine lv_if_ne (tgt := 235) hx hb dX1_build_227 (by decide) (fun hc32 => ?_) (fun hc32 => ?_)
                · have hs := ww_F hs hc32
                  refine lv_iload_n hx hb dX1_build_235 rfl (lv_at hl 2 rfl) ?_
                  refine lv_iconst (v := 1) hx hb dX1_build_236 (by decide) ?_
                  refine lv_icmp_ne (tgt := 245) hx hb dX1_build_237 (by decide) (fun hc33 => ?_) (fun hc33 => ?_)
                  · have hs := ww_F hs hc33
                    refine lv_iload hx hb dX1_build_245 (lv_at hl 4 rfl) ?_
                    exact hL247 L σ x5 _ _ _ _ ls hx0 hcs hrm hW (lv_sub hl [] rfl) hs
                  · have hs := ww_T hs hc33
                    refine lv_iload hx hb dX1_build_240 (lv_at hl 6 rfl) ?_
                    refine lv_goto (tgt := 247) hx hb dX1_build_242 (by decide) ?_
                    exact hL247 L σ x7 _ _ _ _ ls hx0 hcs hrm hW (lv_sub hl [] rfl) hs
                · have hs := ww_T hs hc32
                  refine lv_iload hx hb dX1_build_230 (lv_at hl 5 rfl) ?_
                  refine lv_goto (tgt := 247) hx hb dX1_build_232 (by decide) ?_
                  exact hL247 L σ x6 _ _ _ _ ls hx0 hcs hrm hW (lv_sub hl [] rfl) hs
              · have hs := ww_T hs hc31
                refine lv_iconst (v := (-1)) hx hb dX1_build_222 (by decide) ?_
                refine lv_goto (tgt := 247) hx hb dX1_build_223 (by decide) ?_
                exact hL247 L σ (-1 : Int32) _ _ _ _ ls hx0 hcs hrm hW (lv_sub hl [] rfl) hs
            · have hs := ww_F hs hc30
              refine lv_iconst (v := 2) hx hb dX1_build_86 (by decide) ?_
              refine lv_istore (lv' := [(9, .int (2 : Int32)), (0, .ref (L 1 0)), (1, .int x1), (2, .int x2), (3, .ref (L 97 ix3)), (5, .int x5), (6, .int x6), (7, .int x7), (8, .int x8)]) hx hb dX1_build_87 hl (by decide) rfl (fun ls hl => ?_)
              exact hL89 fu_ L σ x1 x2 ix3 x5 x6 x7 x8 (2 : Int32) _ _ _ _ ls hx0 hcs hrm hW (lv_sub hl [1, 2, 3, 4, 5, 6, 7, 8, 0] rfl) hs
        intro L σ x1 x2 ix3 x4 x5 x6 x7 x8 H locs cells slots ls hx0 hcs hrm hW hl hs
        rw [m_X1_build_L53] at hs
        refine lv_iload hx hb dX1_build_53 (lv_at hl 8 rfl) ?_
        refine lv_iload hx hb dX1_build_55 (lv_at hl 4 rfl) ?_
        refine lv_icmp_ge (tgt := 76) hx hb dX1_build_57 (by decide) (fun hc34 => ?_) (fun hc34 => ?_)
        · have hs := ww_T hs hc34
          refine lv_iconst (v := 0) hx hb dX1_build_76 (by decide) ?_
          refine lv_istore (lv' := [(8, .int (0 : Int32)), (0, .ref (L 1 0)), (1, .int x1), (2, .int x2), (3, .ref (L 97 ix3)), (4, .int x4), (5, .int x5), (6, .int x6), (7, .int x7)]) hx hb dX1_build_77 hl (by decide) rfl (fun ls hl => ?_)
          exact hL79 fu_ L σ x1 x2 ix3 x5 x6 x7 (0 : Int32) _ _ _ _ ls hx0 hcs hrm hW (lv_sub hl [1, 2, 3, 4, 6, 7, 8, 0] rfl) hs
        · have hs := ww_F hs hc34
          refine lv_aload_n hx hb dX1_build_60 rfl (lv_at hl 3 rfl) ?_
          refine lv_aload_n hx hb dX1_build_61 rfl (lv_at hl 0 rfl) ?_
          refine gf_X1_97 hx hb hts hown hW (pr_st (hW.rd hgm) (Nat.le_of_ble_eq_true rfl)) (hW.fl hgm (pr_st (hW.rd hgm) (Nat.le_of_ble_eq_true rfl)) 14 (by decide) rfl (by decide)) dX1_build_62 ?_
          refine lv_iload hx hb dX1_build_65 (lv_at hl 8 rfl) ?_
          obtain ⟨hc35, hs⟩ := ww_chk hs
          refine ww_iald hx hb hW 24 0 (pr_st (hW.rd hgm) (Nat.le_of_ble_eq_true rfl)) rfl hc35 dX1_build_67 ?_
          refine lv_iconst (v := 1) hx hb dX1_build_68 (by decide) ?_
          obtain ⟨hc36, hs⟩ := ww_chk hs
          obtain ⟨hc37, hs⟩ := ww_chk hs
          obtain ⟨σ38, e39, hs⟩ := ww_let hs
          refine ww_zast hx hb hW 97 ix3 (pr_dy hc36 rfl rfl) rfl hc37 dX1_build_69 (fun H locs hW => ?_)
          have hW : wv g L σ38 s H locs := by rw [e39]; exact hW
          obtain ⟨hx0, hcs⟩ := lx_s (σ1 := σ38) hx0 hcs (by rw [e39]; exact kp_E)
          have hc40 : ix3 < gN_ σ38 97 := by rw [e39]; exact hc36
          refine lv_iinc (v := (x8 + (1 : Int32))) (lv' := [(8, .int (x8 + (1 : Int32))), (0, .ref (L 1 0)), (1, .int x1), (2, .int x2), (3, .ref (L 97 ix3)), (4, .int x4), (5, .int x5), (6, .int x6), (7, .int x7)]) hx hb dX1_build_70 hl (k := 8) rfl rfl (by decide) rfl (fun ls hl => ?_)
          refine lv_goto (tgt := 53) hx hb dX1_build_73 (by decide) ?_
          exact ih53 L σ38 x1 x2 ix3 x4 x5 x6 x7 (x8 + (1 : Int32)) _ _ _ _ ls hx0 hcs hrm hW (lv_sub hl [1, 2, 3, 4, 5, 6, 7, 8, 0] rfl) hs
    intro L σ x1 x2 t0 H locs cells slots ls hx0 hcs hrm hW hl hs
    unfold m_X1_build_L18 at hs
    obtain ⟨o43, hc41, hs⟩ := ww_bnd hs
    rcases o43 with k44 | v45
    · have hs := ww_sL hs
      have hs := ww_S hs
      have e1 : o_ = .inl k44 := congrArg Prod.fst hs
      have e2 : σ_ = bX_ σ := congrArg Prod.snd hs
      subst e1
      have hrmx := hcs.room (σ1 := bX_ σ) (σ_ := σ_) (a := 1) (b := 6) rfl rfl (by rw [e2]; exact ⟨Nat.le_refl _, Nat.le_refl _⟩)
      exact wz_prop (vx_runS (As := [.int t0]) (rest := []) ⟨hx, hb, hml, hown, hts⟩ (c_X1_wrong g hgm l L σ t0 hst _ hc41) (va_cwS 1 hts (lw_S q848 q849 q111 q850) rfl rfl rfl hd_X1_wrong.2 ⟨(Nat.le_of_ble_eq_true rfl), (Nat.le_of_ble_eq_true rfl)⟩) (ww_preS hW) rfl rfl hl.1 rfl (lv_room (Nat.le_of_ble_eq_true rfl)) dX1_build_18 hrmx) no_v hx0 hW hlocks hout rfl e2 hrmx
    · have hs := ww_sR hs
      refine ww_xv0 (vx_runS (As := [.int t0]) (rest := []) ⟨hx, hb, hml, hown, hts⟩ (c_X1_wrong g hgm l L σ t0 hst _ hc41) (va_cwS 1 hts (lw_S q848 q849 q111 q850) rfl rfl rfl hd_X1_wrong.2 ⟨(Nat.le_of_ble_eq_true rfl), (Nat.le_of_ble_eq_true rfl)⟩) (ww_preS hW) rfl rfl hl.1 rfl (lv_room (Nat.le_of_ble_eq_true rfl)) dX1_build_18 hrm) hW (fun H locs hW => ?_)
      refine lv_bipush (v := 64) hx hb dX1_build_21 (by decide) ?_
      have hp46 : pr σ 1 0 := (pr_st (hW.rd hgm) (Nat.le_of_ble_eq_true rfl))
      obtain ⟨σ47, e48, hs⟩ := ww_let hs
      obtain ⟨hs, hck⟩ := ww_ck2 hs
      have hrm1 := hcs.room (σ1 := σ47) (a := 1) (b := 64) (by rw [e48]; rfl) (by rw [e48]; rfl) hck
      refine ww_newa (atype := .boolean) hx hb (hts _ q224) hW 97 2 64 (Or.inl rfl) sole_97 (Or.inl rfl) rfl rfl rfl (by decide) rfl (Nat.le_of_ble_eq_true rfl) hrm1.1 hrm1.2 dX1_build_23 (fun H L hx1 hW => ?_)
      rw [← e48] at hx1 hW
      have hcs := hcs.more (σ1 := σ47) (a := 1) (b := 64) (by rw [e48]; rfl) (by rw [e48]; rfl)
      have hrm := hrm1
      have hc49 : gN_ σ 97 < gN_ σ47 97 := by rw [e48]; exact nA_lt rfl
      rw [show ow_ 97 = 97 from rfl]
      have hl : lv_has ls 12 [(0, .ref (L 1 0)), (1, .int x1), (2, .int x2)] := by rw [hx1.at hp46 (by decide)]; exact hl
      have hx0 := hx0.trans hx1
      refine lv_astore_n (lv' := [(3, .ref (L 97 (gN_ σ 97))), (0, .ref (L 1 0)), (1, .int x1), (2, .int x2)]) hx hb dX1_build_25 rfl hl (by decide) rfl (fun ls hl => ?_)
      refine lv_aload_n hx hb dX1_build_26 rfl (lv_at hl 1 rfl) ?_
      refine gf_X1_44 hx hb hts hown hW (pr_st (hW.rd hgm) (Nat.le_of_ble_eq_true rfl)) (hW.fl hgm (pr_st (hW.rd hgm) (Nat.le_of_ble_eq_true rfl)) 1 (by decide) rfl (by decide)) dX1_build_27 ?_
      refine lv_aload_n hx hb dX1_build_30 rfl (lv_at hl 1 rfl) ?_
      refine gf_X1_97 hx hb hts hown hW (pr_st (hW.rd hgm) (Nat.le_of_ble_eq_true rfl)) (hW.fl hgm (pr_st (hW.rd hgm) (Nat.le_of_ble_eq_true rfl)) 14 (by decide) rfl (by decide)) dX1_build_31 ?_
      obtain ⟨v52, σ53, hc50, hs⟩ := ww_bn2 hs
      obtain ⟨hkp, hs⟩ := ww_pif hs
      obtain ⟨hx0, hcs⟩ := lx_s hx0 hcs hkp
      refine ww_ci (va_runV (As := [.ref (L 24 0)]) (rest := []) ⟨hx, hb, hml, hown, hts⟩ (c_X2_ripe g hgm l L σ47 0 _ _ hc50) (cwV 1 hts (lw_V q1241 q1242 q1243 q112 q1244) rfl rfl rfl hd_X2_ripe ⟨(Nat.le_of_ble_eq_true rfl), (Nat.le_of_ble_eq_true rfl)⟩) (ww_preV hW (pr_st (hW.rd hgm) (Nat.le_of_ble_eq_true rfl)) (obv_0 rfl) rfl) rfl rfl hl.1 rfl (lv_room (Nat.le_of_ble_eq_true rfl)) dX1_build_34 hrm) hW (fun H locs hW => ?_)
      have hc54 : (gN_ σ 97) < gN_ σ53 97 := by rw [hkp.1]; exact hc49
      refine lv_istore (lv' := [(4, .int v52), (3, .ref (L 97 (gN_ σ 97))), (0, .ref (L 1 0)), (1, .int x1), (2, .int x2)]) hx hb dX1_build_37 hl (by decide) rfl (fun ls hl => ?_)
      refine lv_ldcw hx hb hown (hts _ q567) dX1_build_39 ?_
      refine lv_istore (lv' := [(5, .int (1000000000 : Int32)), (4, .int v52), (3, .ref (L 97 (gN_ σ 97))), (0, .ref (L 1 0)), (1, .int x1), (2, .int x2)]) hx hb dX1_build_42 hl (by decide) rfl (fun ls hl => ?_)
      refine lv_iconst (v := (-1)) hx hb dX1_build_44 (by decide) ?_
      refine lv_istore (lv' := [(6, .int (-1 : Int32)), (5, .int (1000000000 : Int32)), (4, .int v52), (3, .ref (L 97 (gN_ σ 97))), (0, .ref (L 1 0)), (1, .int x1), (2, .int x2)]) hx hb dX1_build_45 hl (by decide) rfl (fun ls hl => ?_)
      refine lv_iconst (v := (-1)) hx hb dX1_build_47 (by decide) ?_
      refine lv_istore (lv' := [(7, .int (-1 : Int32)), (6, .int (-1 : Int32)), (5, .int (1000000000 : Int32)), (4, .int v52), (3, .ref (L 97 (gN_ σ 97))), (0, .ref (L 1 0)), (1, .int x1), (2, .int x2)]) hx hb dX1_build_48 hl (by decide) rfl (fun ls hl => ?_)
      refine lv_iconst (v := 0) hx hb dX1_build_50 (by decide) ?_
      refine lv_istore (lv' := [(8, .int (0 : Int32)), (7, .int (-1 : Int32)), (6, .int (-1 : Int32)), (5, .int (1000000000 : Int32)), (4, .int v52), (3, .ref (L 97 (gN_ σ 97))), (0, .ref (L 1 0)), (1, .int x1), (2, .int x2)]) hx hb dX1_build_51 hl (by decide) rfl (fun ls hl => ?_)
      exact hL53 fu_ L σ53 x1 x2 (gN_ σ 97) v52 (1000000000 : Int32) (-1 : Int32) (-1 : Int32) (0 : Int32) _ _ _ _ ls hx0 hcs hrm hW (lv_sub hl [6, 7, 8, 5, 4, 3, 2, 1, 0] rfl) hs
  refine lv_iload_n hx hb dX1_build_0 rfl (lv_at hl 1 rfl) ?_
  obtain ⟨o57, hc55, hs⟩ := ww_bnd hs
  rcases o57 with k58 | v59
  · have hs := ww_sL hs
    have hs := ww_S hs
    have e1 : o_ = .inl k58 := congrArg Prod.fst hs
    have e2 : σ_ = bX_ σ := congrArg Prod.snd hs
    subst e1
    have hrmx := hcs.room (σ1 := bX_ σ) (σ_ := σ_) (a := 1) (b := 6) rfl rfl (by rw [e2]; exact ⟨Nat.le_refl _, Nat.le_refl _⟩)
    exact wz_prop (vx_runS (As := [.int a1]) (rest := []) ⟨hx, hb, hml, hown, hts⟩ (c_X1_some g hgm l L σ a1 hst _ hc55) (va_cwS 1 hts (lw_S q1224 q1225 q111 q1226) rfl rfl rfl hd_X1_some.2 ⟨(Nat.le_of_ble_eq_true rfl), (Nat.le_of_ble_eq_true rfl)⟩) (ww_preS hW) rfl rfl hl.1 rfl (lv_room (Nat.le_of_ble_eq_true rfl)) dX1_build_1 hrmx) no_v hx0 hW hlocks hout rfl e2 hrmx
  · have hs := ww_sR hs
    refine ww_xv0 (vx_runS (As := [.int a1]) (rest := []) ⟨hx, hb, hml, hown, hts⟩ (c_X1_some g hgm l L σ a1 hst _ hc55) (va_cwS 1 hts (lw_S q1224 q1225 q111 q1226) rfl rfl rfl hd_X1_some.2 ⟨(Nat.le_of_ble_eq_true rfl), (Nat.le_of_ble_eq_true rfl)⟩) (ww_preS hW) rfl rfl hl.1 rfl (lv_room (Nat.le_of_ble_eq_true rfl)) dX1_build_1 hrm) hW (fun H locs hW => ?_)
    refine lv_iload_n hx hb dX1_build_4 rfl (lv_at hl 2 rfl) ?_
    refine lv_iconst (v := 0) hx hb dX1_build_5 (by decide) ?_
    refine lv_iconst (v := 2) hx hb dX1_build_6 (by decide) ?_
    obtain ⟨v62, hc60, hs⟩ := ww_bnd hs
    refine ww_ci (va_runS (As := [.int a2, .int (0 : Int32), .int (2 : Int32)]) (rest := []) ⟨hx, hb, hml, hown, hts⟩ (c_X1_in g hgm l L σ a2 (0 : Int32) (2 : Int32) _ hc60) (va_cwS 3 hts (lw_S q824 q825 q111 q826) rfl rfl rfl hd_X1_in.2 ⟨(Nat.le_of_ble_eq_true rfl), (Nat.le_of_ble_eq_true rfl)⟩) (ww_preS hW) rfl rfl hl.1 rfl (lv_room (Nat.le_of_ble_eq_true rfl)) dX1_build_7 hrm) hW (fun H locs hW => ?_)
    refine lv_if_ne (tgt := 17) hx hb dX1_build_10 (by decide) (fun hc63 => ?_) (fun hc63 => ?_)
    · have hs := ww_F hs hc63
      refine lv_iconst (v := 0) hx hb dX1_build_17 (by decide) ?_
      exact hL18 L σ a1 a2 (0 : Int32) _ _ _ _ ls hx0 hcs hrm hW (lv_sub hl [0, 1, 2] rfl) hs
    · have hs := ww_T hs hc63
      refine lv_iconst (v := 1) hx hb dX1_build_13 (by decide) ?_
      refine lv_goto (tgt := 18) hx hb dX1_build_14 (by decide) ?_
      exact hL18 L σ a1 a2 (1 : Int32) _ _ _ _ ls hx0 hcs hrm hW (lv_sub hl [0, 1, 2] rfl) hs
set_option maxHeartbeats 4000000 in
theorem c_X1_dusk (g : wg_T) (hgm : gm g = true) (l : Launch) (L : ly_T) (σ : st_T) (a1 : Int32) (a2 : Int32) (a3 : Int32) (hst : l.stackTraces = false) (o_ : Nat ⊕ Int32) (σ_ : st_T) (hs : m_X1_dusk σ a1 a2 a3 = some (o_, σ_)) : YI g l yX1_dusk (ws_ yX1_dusk cX1_dusk 7 (some .int)) 10 180 [.ref (L 1 0), .int a1, .int a2, .int a3] L σ o_ σ_ := by
  refine xbody.met (by decide) (Nat.le_of_ble_eq_true rfl) ?_
  intro p e s m args below meth c ls hx hb hr hml hlocks hts hown hnm hout hW hl
  have hown : s.vm.findClass RX1 = some m.cls := hown
  obtain ⟨L0, hL0⟩ : ∃ L0, L0 = L := ⟨_, rfl⟩
  obtain ⟨σ0, hσ0⟩ : ∃ σ0, σ0 = σ := ⟨_, rfl⟩
  rw [← hσ0, ← hL0]
  have hx0 : lext L0 σ0 L σ := by rw [hL0, hσ0]; exact lext.refl
  have hcs : bk σ0 σ 0 0 := bk.start hσ0
  have hrm : 0 ≤ cu_ σ_ - cu_ σ0 ∧ 0 ≤ su_ σ_ - su_ σ0 := ⟨Nat.zero_le _, Nat.zero_le _⟩
  have hl : lv_has ls 7 [(0, .ref (L 1 0)), (1, .int a1), (2, .int a2), (3, .int a3)] := hl
  unfold m_X1_dusk at hs
  have hL21 : ∀ (n21 : Nat), ∀ (L : ly_T) (σ : st_T) (x1 : Int32) (x2 : Int32) (x3 : Int32) (ix4 : Nat) (x5 : Int32) (H : Heap) (locs : List Loc) (cells slots : Nat) (ls : Array Slot), lext L0 σ0 L σ → bk σ0 σ cells slots → (cells ≤ cu_ σ_ - cu_ σ0 ∧ slots ≤ su_ σ_ - su_ σ0) → wv g L σ s H locs → lv_has ls 7 [(0, .ref (L 1 0)), (1, .int x1), (2, .int x2), (3, .int x3), (4, .ref (L 98 ix4)), (5, .int x5)] → (m_X1_dusk_L21 n21) σ x1 x2 x3 ix4 x5 = some (o_, σ_) → W p l e (wrA 10 180 σ0 σ_) s m args below meth c H locs cells slots (vx_MQ below (yXi g L0 σ0 o_ σ_) (yX g L0 σ0 o_ σ_) args s (cu_ σ_ - cu_ σ0) (su_ σ_ - su_ σ0) (fun q => gz g ≤ q)) (F0 m 21 ls []) := by
    intro n21
    induction n21 with
    | zero => intro L σ x1 x2 x3 ix4 x5 H locs cells slots ls hx0 hcs hrm hW hl hs; rw [m_X1_dusk_L21] at hs; cases hs
    | succ n21 ih21 =>
      have hL59 : ∀ (n59 : Nat), ∀ (L : ly_T) (σ : st_T) (x1 : Int32) (x2 : Int32) (x3 : Int32) (ix4 : Nat) (x5 : Int32) (H : Heap) (locs : List Loc) (cells slots : Nat) (ls : Array Slot), lext L0 σ0 L σ → bk σ0 σ cells slots → (cells ≤ cu_ σ_ - cu_ σ0 ∧ slots ≤ su_ σ_ - su_ σ0) → wv g L σ s H locs → lv_has ls 7 [(0, .ref (L 1 0)), (1, .int x1), (2, .int x2), (3, .int x3), (4, .ref (L 98 ix4)), (5, .int x5)] → (m_X1_dusk_L59 n59) σ x1 x2 x3 ix4 x5 = some (o_, σ_) → W p l e (wrA 10 180 σ0 σ_) s m args below meth c H locs cells slots (vx_MQ below (yXi g L0 σ0 o_ σ_) (yX g L0 σ0 o_ σ_) args s (cu_ σ_ - cu_ σ0) (su_ σ_ - su_ σ0) (fun q => gz g ≤ q)) (F0 m 59 ls []) := by
        intro n59
        induction n59 with
        | zero => intro L σ x1 x2 x3 ix4 x5 H locs cells slots ls hx0 hcs hrm hW hl hs; rw [m_X1_dusk_L59] at hs; cases hs
        | succ n59 ih59 =>
          have hL163 : ∀ (L : ly_T) (σ : st_T) (t0 : Int32) (H : Heap) (locs : List Loc) (cells slots : Nat) (ls : Array Slot), lext L0 σ0 L σ → bk σ0 σ cells slots → (cells ≤ cu_ σ_ - cu_ σ0 ∧ slots ≤ su_ σ_ - su_ σ0) → wv g L σ s H locs → lv_has ls 7 [] → m_X1_dusk_L163 σ t0 = some (o_, σ_) → W p l e (wrA 10 180 σ0 σ_) s m args below meth c H locs cells slots (vx_MQ below (yXi g L0 σ0 o_ σ_) (yX g L0 σ0 o_ σ_) args s (cu_ σ_ - cu_ σ0) (su_ σ_ - su_ σ0) (fun q => gz g ≤ q)) (F0 m 163 ls [.int t0]) := by
            intro L σ t0 H locs cells slots ls hx0 hcs hrm hW hl hs
            unfold m_X1_dusk_L163 at hs
            have hs := ww_S hs
            exact wz_i hx hb hr hlocks hx0 hcs hW (congrArg Prod.fst hs) (congrArg Prod.snd hs) dX1_dusk_163
          have hL91 : ∀ (n91 : Nat), ∀ (L : ly_T) (σ : st_T) (x1 : Int32) (x2 : Int32) (x3 : Int32) (ix4 : Nat) (x5 : Int32) (x6 : Int32) (H : Heap) (locs : List Loc) (cells slots : Nat) (ls : Array Slot), lext L0 σ0 L σ → bk σ0 σ cells slots → (cells ≤ cu_ σ_ - cu_ σ0 ∧ slots ≤ su_ σ_ - su_ σ0) → wv g L σ s H locs → lv_has ls 7 [(0, .ref (L 1 0)), (1, .int x1), (2, .int x2), (3, .int x3), (4, .ref (L 98 ix4)), (5, .int x5), (6, .int x6)] → (m_X1_dusk_L91 (m_X1_dusk_L59 n59) n91) σ x1 x2 x3 ix4 x5 x6 = some (o_, σ_) → W p l e (wrA 10 180 σ0 σ_) s m args below meth c H locs cells slots (vx_MQ below (yXi g L0 σ0 o_ σ_) (yX g L0 σ0 o_ σ_) args s (cu_ σ_ - cu_ σ0) (su_ σ_ - su_ σ0) (fun q => gz g ≤ q)) (F0 m 91 ls []) := by
            intro n91
            induction n91 with
            | zero => intro L σ x1 x2 x3 ix4 x5 x6 H locs cells slots ls hx0 hcs hrm hW hl hs; rw [m_X1_dusk_L91] at hs; cases hs
            | succ n91 ih91 =>
              intro L σ x1 x2 x3 ix4 x5 x6 H locs cells slots ls hx0 hcs hrm hW hl hs
              rw [m_X1_dusk_L91] at hs
              refine lv_iload hx hb dX1_dusk_91 (lv_at hl 6 rfl) ?_
              refine lv_bipush (v := 64) hx hb dX1_dusk_93 (by decide) ?_
              refine lv_icmp_ge (tgt := 119) hx hb dX1_dusk_95 (by decide) (fun hc1 => ?_) (fun hc1 => ?_)
              · have hs := ww_T hs hc1
                refine lv_iinc (v := (x5 + (1 : Int32))) (lv' := [(5, .int (x5 + (1 : Int32))), (0, .ref (L 1 0)), (1, .int x1), (2, .int x2), (3, .int x3), (4, .ref (L 98 ix4)), (6, .int x6)]) hx hb dX1_dusk_119 hl (k := 5) rfl rfl (by decide) rfl (fun ls hl => ?_)
                refine lv_goto (tgt := 59) hx hb dX1_dusk_122 (by decide) ?_
                exact ih59 L σ x1 x2 x3 ix4 (x5 + (1 : Int32)) _ _ _ _ ls hx0 hcs hrm hW (lv_sub hl [1, 2, 3, 4, 5, 0] rfl) hs
              · have hs := ww_F hs hc1
                refine lv_aload hx hb dX1_dusk_98 (lv_at hl 4 rfl) ?_
                refine lv_iload hx hb dX1_dusk_100 (lv_at hl 6 rfl) ?_
                refine lv_dup2_11 hx hb dX1_dusk_102 rfl rfl ?_
                obtain ⟨hc2, hs⟩ := ww_chk hs
                obtain ⟨hc3, hs⟩ := ww_chk hs
                refine ww_zald hx hb hW 98 ix4 (pr_dy hc2 rfl rfl) rfl hc3 dX1_dusk_103 ?_
                refine lv_aload_n hx hb dX1_dusk_104 rfl (lv_at hl 0 rfl) ?_
                refine gf_X1_140 hx hb hts hown hW (pr_st (hW.rd hgm) (Nat.le_of_ble_eq_true rfl)) (hW.fl hgm (pr_st (hW.rd hgm) (Nat.le_of_ble_eq_true rfl)) 28 (by decide) rfl (by decide)) dX1_dusk_105 ?_
                refine lv_iload hx hb dX1_dusk_108 (lv_at hl 6 rfl) ?_
                refine ww_zald hx hb hW 38 0 (pr_st (hW.rd hgm) (Nat.le_of_ble_eq_true rfl)) rfl hc3 dX1_dusk_110 ?_
                refine lv_ior hx hb dX1_dusk_111 ?_
                obtain ⟨σ4, e5, hs⟩ := ww_let hs
                refine ww_zast hx hb hW 98 ix4 (pr_dy hc2 rfl rfl) rfl hc3 dX1_dusk_112 (fun H locs hW => ?_)
                have hW : wv g L σ4 s H locs := by rw [e5]; exact hW
                obtain ⟨hx0, hcs⟩ := lx_s (σ1 := σ4) hx0 hcs (by rw [e5]; exact kp_E)
                have hc6 : ix4 < gN_ σ4 98 := by rw [e5]; exact hc2
                refine lv_iinc (v := (x6 + (1 : Int32))) (lv' := [(6, .int (x6 + (1 : Int32))), (0, .ref (L 1 0)), (1, .int x1), (2, .int x2), (3, .int x3), (4, .ref (L 98 ix4)), (5, .int x5)]) hx hb dX1_dusk_113 hl (k := 6) rfl rfl (by decide) rfl (fun ls hl => ?_)
                refine lv_goto (tgt := 91) hx hb dX1_dusk_116 (by decide) ?_
                exact ih91 L σ4 x1 x2 x3 ix4 x5 (x6 + (1 : Int32)) _ _ _ _ ls hx0 hcs hrm hW (lv_sub hl [1, 2, 3, 4, 5, 6, 0] rfl) hs
          intro L σ x1 x2 x3 ix4 x5 H locs cells slots ls hx0 hcs hrm hW hl hs
          rw [m_X1_dusk_L59] at hs
          refine lv_iload hx hb dX1_dusk_59 (lv_at hl 5 rfl) ?_
          refine lv_aload_n hx hb dX1_dusk_61 rfl (lv_at hl 0 rfl) ?_
          refine gf_X1_71 hx hb hts hown hW (pr_st (hW.rd hgm) (Nat.le_of_ble_eq_true rfl)) (hW.fl hgm (pr_st (hW.rd hgm) (Nat.le_of_ble_eq_true rfl)) 6 (by decide) rfl (by decide)) dX1_dusk_62 ?_
          refine ww_ci (va_runV (As := []) (rest := [.int x5]) ⟨hx, hb, hml, hown, hts⟩ (c_AL_size g hgm l L σ 70 0 71 rfl rfl (pr_st (hW.rd hgm) (Nat.le_of_ble_eq_true rfl))) (cwV 0 hts (lw_V q514 q515 q516 q117 q517) rfl rfl rfl hd_J2_size ⟨(Nat.le_of_ble_eq_true rfl), (Nat.le_of_ble_eq_true rfl)⟩) (ww_preV hW (pr_st (hW.rd hgm) (Nat.le_of_ble_eq_true rfl)) (obv_0 rfl) rfl) rfl rfl hl.1 rfl (lv_room (Nat.le_of_ble_eq_true rfl)) dX1_dusk_65 hrm) hW (fun H locs hW => ?_)
          refine lv_icmp_ge (tgt := 125) hx hb dX1_dusk_68 (by decide) (fun hc7 => ?_) (fun hc7 => ?_)
          · have hs := ww_T hs hc7
            refine lv_aload_n hx hb dX1_dusk_125 rfl (lv_at hl 0 rfl) ?_
            refine gf_X1_64 hx hb hts hown hW (pr_st (hW.rd hgm) (Nat.le_of_ble_eq_true rfl)) (hW.fl hgm (pr_st (hW.rd hgm) (Nat.le_of_ble_eq_true rfl)) 5 (by decide) rfl (by decide)) dX1_dusk_126 ?_
            refine lv_iload_n hx hb dX1_dusk_129 rfl (lv_at hl 1 rfl) ?_
            refine lv_aload hx hb dX1_dusk_130 (lv_at hl 4 rfl) ?_
            obtain ⟨σ10, hc8, hs⟩ := ww_bnd hs
            obtain ⟨hkp, hs⟩ := ww_pif hs
            obtain ⟨hx0, hcs⟩ := lx_s hx0 hcs hkp
            refine ww_cv (va_runV (As := [.int x1, .ref (L 98 ix4)]) (rest := []) ⟨hx, hb, hml, hown, hts⟩ (c_X4_from g hgm l L σ x1 98 ix4 _ hc8) (cwV 2 hts (lw_V q1508 q1509 q1510 q114 q1511) rfl rfl rfl hd_X4_from ⟨(Nat.le_of_ble_eq_true rfl), (Nat.le_of_ble_eq_true rfl)⟩) (ww_preV hW (pr_st (hW.rd hgm) (Nat.le_of_ble_eq_true rfl)) (obv_0 rfl) rfl) rfl rfl hl.1 rfl (lv_room (Nat.le_of_ble_eq_true rfl)) dX1_dusk_132 hrm) hW (fun H locs hW => ?_)
            refine lv_aload_n hx hb dX1_dusk_135 rfl (lv_at hl 0 rfl) ?_
            refine gf_X1_64 hx hb hts hown hW (pr_st (hW.rd hgm) (Nat.le_of_ble_eq_true rfl)) (hW.fl hgm (pr_st (hW.rd hgm) (Nat.le_of_ble_eq_true rfl)) 5 (by decide) rfl (by decide)) dX1_dusk_136 ?_
            refine gf_X1_449 hx hb hts hown hW (pr_st (hW.rd hgm) (Nat.le_of_ble_eq_true rfl)) (hW.fl hgm (pr_st (hW.rd hgm) (Nat.le_of_ble_eq_true rfl)) 0 (by decide) rfl (by decide)) dX1_dusk_139 ?_
            refine lv_iload_n hx hb dX1_dusk_142 rfl (lv_at hl 2 rfl) ?_
            obtain ⟨hc11, hs⟩ := ww_chk hs
            refine ww_iald hx hb hW 66 0 (pr_st (hW.rd hgm) (Nat.le_of_ble_eq_true rfl)) rfl hc11 dX1_dusk_143 ?_
            refine lv_ldcw hx hb hown (hts _ q567) dX1_dusk_144 ?_
            refine lv_icmp_ne (tgt := 154) hx hb dX1_dusk_147 (by decide) (fun hc12 => ?_) (fun hc12 => ?_)
            · have hs := ww_F hs hc12
              refine lv_aload_n hx hb dX1_dusk_154 rfl (lv_at hl 0 rfl) ?_
              refine gf_X1_64 hx hb hts hown hW (pr_st (hW.rd hgm) (Nat.le_of_ble_eq_true rfl)) (hW.fl hgm (pr_st (hW.rd hgm) (Nat.le_of_ble_eq_true rfl)) 5 (by decide) rfl (by decide)) dX1_dusk_155 ?_
              refine gf_X1_449 hx hb hts hown hW (pr_st (hW.rd hgm) (Nat.le_of_ble_eq_true rfl)) (hW.fl hgm (pr_st (hW.rd hgm) (Nat.le_of_ble_eq_true rfl)) 0 (by decide) rfl (by decide)) dX1_dusk_158 ?_
              refine lv_iload_n hx hb dX1_dusk_161 rfl (lv_at hl 2 rfl) ?_
              refine ww_iald hx hb hW 66 0 (pr_st (hW.rd hgm) (Nat.le_of_ble_eq_true rfl)) rfl hc11 dX1_dusk_162 ?_
              exact hL163 L σ10 (gA_ σ10 66 0 x2.toNatClampNeg) _ _ _ _ ls hx0 hcs hrm hW (lv_sub hl [] rfl) hs
            · have hs := ww_T hs hc12
              refine lv_iconst (v := (-1)) hx hb dX1_dusk_150 (by decide) ?_
              refine lv_goto (tgt := 163) hx hb dX1_dusk_151 (by decide) ?_
              exact hL163 L σ10 (-1 : Int32) _ _ _ _ ls hx0 hcs hrm hW (lv_sub hl [] rfl) hs
          · have hs := ww_F hs hc7
            refine lv_aload_n hx hb dX1_dusk_71 rfl (lv_at hl 0 rfl) ?_
            refine lv_aload_n hx hb dX1_dusk_72 rfl (lv_at hl 0 rfl) ?_
            refine gf_X1_71 hx hb hts hown hW (pr_st (hW.rd hgm) (Nat.le_of_ble_eq_true rfl)) (hW.fl hgm (pr_st (hW.rd hgm) (Nat.le_of_ble_eq_true rfl)) 6 (by decide) rfl (by decide)) dX1_dusk_73 ?_
            refine lv_iload hx hb dX1_dusk_76 (lv_at hl 5 rfl) ?_
            obtain ⟨hc13, hs⟩ := ww_chk hs
            refine ww_cr (va_runV (As := [.int x5]) (rest := [.ref (L 1 0)]) ⟨hx, hb, hml, hown, hts⟩ (c_AL_get g hgm l L σ 70 0 71 80 x5 rfl rfl rfl (pr_st (hW.rd hgm) (Nat.le_of_ble_eq_true rfl)) hc13) (cwV 1 hts (lw_V q518 q519 q520 q117 q521) rfl rfl rfl hd_J2_get ⟨(Nat.le_of_ble_eq_true rfl), (Nat.le_of_ble_eq_true rfl)⟩) (ww_preV hW (pr_st (hW.rd hgm) (Nat.le_of_ble_eq_true rfl)) (obv_0 rfl) rfl) rfl rfl hl.1 rfl (lv_room (Nat.le_of_ble_eq_true rfl)) dX1_dusk_78 hrm) hW (fun H locs hW => ?_)
            obtain ⟨hc14, hs⟩ := ww_chk hs
            refine ww_castS hx hb hown (hts _ q532) hW (pr_dy hc14 rfl rfl) (obv_0 rfl) rfl dX1_dusk_81 ?_
            refine lv_iload_n hx hb dX1_dusk_84 rfl (lv_at hl 3 rfl) ?_
            obtain ⟨σ17, hc15, hs⟩ := ww_bnd hs
            obtain ⟨hkp, hs⟩ := ww_pif hs
            obtain ⟨hx0, hcs⟩ := lx_s hx0 hcs hkp
            refine ww_cv (va_runV (As := [.ref (L 80 (gP_ σ 71 (2 + x5.toNatClampNeg) 0)), .int x3]) (rest := []) ⟨hx, hb, hml, hown, hts⟩ (c_X1_places g hgm l L σ (gP_ σ 71 (2 + x5.toNatClampNeg) 0) x3 _ hc15) (cwV 2 hts (lw_V q1496 q1498 qs34 q111 q1499) rfl rfl rfl hd_X1_places ⟨(Nat.le_of_ble_eq_true rfl), (Nat.le_of_ble_eq_true rfl)⟩) (ww_preV hW (pr_st (hW.rd hgm) (Nat.le_of_ble_eq_true rfl)) (obv_0 rfl) rfl) rfl rfl hl.1 rfl (lv_room (Nat.le_of_ble_eq_true rfl)) dX1_dusk_85 hrm) hW (fun H locs hW => ?_)
            refine lv_iconst (v := 0) hx hb dX1_dusk_88 (by decide) ?_
            refine lv_istore (lv' := [(6, .int (0 : Int32)), (0, .ref (L 1 0)), (1, .int x1), (2, .int x2), (3, .int x3), (4, .ref (L 98 ix4)), (5, .int x5)]) hx hb dX1_dusk_89 hl (by decide) rfl (fun ls hl => ?_)
            exact hL91 fu_ L σ17 x1 x2 x3 ix4 x5 (0 : Int32) _ _ _ _ ls hx0 hcs hrm hW (lv_sub hl [1, 2, 3, 4, 5, 6, 0] rfl) hs
      have hL49 : ∀ (L : ly_T) (σ : st_T) (x1 : Int32) (x2 : Int32) (x3 : Int32) (ix4 : Nat) (x5 : Int32) (it0 : Nat) (t1 : Int32) (t2 : Int32) (H : Heap) (locs : List Loc) (cells slots : Nat) (ls : Array Slot), lext L0 σ0 L σ → bk σ0 σ cells slots → (cells ≤ cu_ σ_ - cu_ σ0 ∧ slots ≤ su_ σ_ - su_ σ0) → wv g L σ s H locs → lv_has ls 7 [(0, .ref (L 1 0)), (1, .int x1), (2, .int x2), (3, .int x3), (4, .ref (L 98 ix4)), (5, .int x5)] → (m_X1_dusk_L49 (m_X1_dusk_L21 n21)) σ x1 x2 x3 ix4 x5 it0 t1 t2 = some (o_, σ_) → W p l e (wrA 10 180 σ0 σ_) s m args below meth c H locs cells slots (vx_MQ below (yXi g L0 σ0 o_ σ_) (yX g L0 σ0 o_ σ_) args s (cu_ σ_ - cu_ σ0) (su_ σ_ - su_ σ0) (fun q => gz g ≤ q)) (F0 m 49 ls [.int t2, .int t1, .ref (L 98 it0)]) := by
        intro L σ x1 x2 x3 ix4 x5 it0 t1 t2 H locs cells slots ls hx0 hcs hrm hW hl hs
        unfold m_X1_dusk_L49 at hs
        obtain ⟨hc18, hs⟩ := ww_chk hs
        obtain ⟨hc19, hs⟩ := ww_chk hs
        obtain ⟨σ20, e21, hs⟩ := ww_let hs
        refine ww_zast hx hb hW 98 it0 (pr_dy hc18 rfl rfl) rfl hc19 dX1_dusk_49 (fun H locs hW => ?_)
        have hW : wv g L σ20 s H locs := by rw [e21]; exact hW
        obtain ⟨hx0, hcs⟩ := lx_s (σ1 := σ20) hx0 hcs (by rw [e21]; exact kp_E)
        have hc22 : it0 < gN_ σ20 98 := by rw [e21]; exact hc18
        refine lv_iinc (v := (x5 + (1 : Int32))) (lv' := [(5, .int (x5 + (1 : Int32))), (0, .ref (L 1 0)), (1, .int x1), (2, .int x2), (3, .int x3), (4, .ref (L 98 ix4))]) hx hb dX1_dusk_50 hl (k := 5) rfl rfl (by decide) rfl (fun ls hl => ?_)
        refine lv_goto (tgt := 21) hx hb dX1_dusk_53 (by decide) ?_
        exact ih21 L σ20 x1 x2 x3 ix4 (x5 + (1 : Int32)) _ _ _ _ ls hx0 hcs hrm hW (lv_sub hl [1, 2, 3, 4, 5, 0] rfl) hs
      intro L σ x1 x2 x3 ix4 x5 H locs cells slots ls hx0 hcs hrm hW hl hs
      rw [m_X1_dusk_L21] at hs
      refine lv_iload hx hb dX1_dusk_21 (lv_at hl 5 rfl) ?_
      refine lv_bipush (v := 64) hx hb dX1_dusk_23 (by decide) ?_
      refine lv_icmp_ge (tgt := 56) hx hb dX1_dusk_25 (by decide) (fun hc23 => ?_) (fun hc23 => ?_)
      · have hs := ww_T hs hc23
        refine lv_iconst (v := 0) hx hb dX1_dusk_56 (by decide) ?_
        refine lv_istore (lv' := [(5, .int (0 : Int32)), (0, .ref (L 1 0)), (1, .int x1), (2, .int x2), (3, .int x3), (4, .ref (L 98 ix4))]) hx hb dX1_dusk_57 hl (by decide) rfl (fun ls hl => ?_)
        exact hL59 fu_ L σ x1 x2 x3 ix4 (0 : Int32) _ _ _ _ ls hx0 hcs hrm hW (lv_sub hl [1, 2, 3, 4, 5, 0] rfl) hs
      · have hs := ww_F hs hc23
        refine lv_aload hx hb dX1_dusk_28 (lv_at hl 4 rfl) ?_
        refine lv_iload hx hb dX1_dusk_30 (lv_at hl 5 rfl) ?_
        refine lv_aload_n hx hb dX1_dusk_32 rfl (lv_at hl 0 rfl) ?_
        refine gf_X1_44 hx hb hts hown hW (pr_st (hW.rd hgm) (Nat.le_of_ble_eq_true rfl)) (hW.fl hgm (pr_st (hW.rd hgm) (Nat.le_of_ble_eq_true rfl)) 1 (by decide) rfl (by decide)) dX1_dusk_33 ?_
        refine lv_iload hx hb dX1_dusk_36 (lv_at hl 5 rfl) ?_
        obtain ⟨v26, hc24, hs⟩ := ww_bnd hs
        refine ww_ci (va_runV (As := [.int x5]) (rest := [.int x5, .ref (L 98 ix4)]) ⟨hx, hb, hml, hown, hts⟩ (c_X2_isOpen g hgm l L σ 0 x5 _ hc24) (cwV 1 hts (lw_V q1246 q548 q549 q112 q550) rfl rfl rfl hd_X2_isOpen ⟨(Nat.le_of_ble_eq_true rfl), (Nat.le_of_ble_eq_true rfl)⟩) (ww_preV hW (pr_st (hW.rd hgm) (Nat.le_of_ble_eq_true rfl)) (obv_0 rfl) rfl) rfl rfl hl.1 rfl (lv_room (Nat.le_of_ble_eq_true rfl)) dX1_dusk_38 hrm) hW (fun H locs hW => ?_)
        refine lv_if_ne (tgt := 48) hx hb dX1_dusk_41 (by decide) (fun hc27 => ?_) (fun hc27 => ?_)
        · have hs := ww_F hs hc27
          refine lv_iconst (v := 0) hx hb dX1_dusk_48 (by decide) ?_
          exact hL49 L σ x1 x2 x3 ix4 x5 ix4 x5 (0 : Int32) _ _ _ _ ls hx0 hcs hrm hW (lv_sub hl [0, 1, 2, 3, 4, 5] rfl) hs
        · have hs := ww_T hs hc27
          refine lv_iconst (v := 1) hx hb dX1_dusk_44 (by decide) ?_
          refine lv_goto (tgt := 49) hx hb dX1_dusk_45 (by decide) ?_
          exact hL49 L σ x1 x2 x3 ix4 x5 ix4 x5 (1 : Int32) _ _ _ _ ls hx0 hcs hrm hW (lv_sub hl [0, 1, 2, 3, 4, 5] rfl) hs
  refine lv_iload_n hx hb dX1_dusk_0 rfl (lv_at hl 1 rfl) ?_
  obtain ⟨o30, hc28, hs⟩ := ww_bnd hs
  rcases o30 with k31 | v32
  · have hs := ww_sL hs
    have hs := ww_S hs
    have e1 : o_ = .inl k31 := congrArg Prod.fst hs
    have e2 : σ_ = bX_ σ := congrArg Prod.snd hs
    subst e1
    have hrmx := hcs.room (σ1 := bX_ σ) (σ_ := σ_) (a := 1) (b := 6) rfl rfl (by rw [e2]; exact ⟨Nat.le_refl _, Nat.le_refl _⟩)
    exact wz_prop (vx_runS (As := [.int a1]) (rest := []) ⟨hx, hb, hml, hown, hts⟩ (c_X1_cell g hgm l L σ a1 hst _ hc28) (va_cwS 1 hts (lw_S q821 q822 q111 q823) rfl rfl rfl hd_X1_cell.2 ⟨(Nat.le_of_ble_eq_true rfl), (Nat.le_of_ble_eq_true rfl)⟩) (ww_preS hW) rfl rfl hl.1 rfl (lv_room (Nat.le_of_ble_eq_true rfl)) dX1_dusk_1 hrmx) no_v hx0 hW hlocks hout rfl e2 hrmx
  · have hs := ww_sR hs
    refine ww_xv0 (vx_runS (As := [.int a1]) (rest := []) ⟨hx, hb, hml, hown, hts⟩ (c_X1_cell g hgm l L σ a1 hst _ hc28) (va_cwS 1 hts (lw_S q821 q822 q111 q823) rfl rfl rfl hd_X1_cell.2 ⟨(Nat.le_of_ble_eq_true rfl), (Nat.le_of_ble_eq_true rfl)⟩) (ww_preS hW) rfl rfl hl.1 rfl (lv_room (Nat.le_of_ble_eq_true rfl)) dX1_dusk_1 hrm) hW (fun H locs hW => ?_)
    refine lv_iload_n hx hb dX1_dusk_4 rfl (lv_at hl 2 rfl) ?_
    obtain ⟨o35, hc33, hs⟩ := ww_bnd hs
    rcases o35 with k36 | v37
    · have hs := ww_sL hs
      have hs := ww_S hs
      have e1 : o_ = .inl k36 := congrArg Prod.fst hs
      have e2 : σ_ = bX_ σ := congrArg Prod.snd hs
      subst e1
      have hrmx := hcs.room (σ1 := bX_ σ) (σ_ := σ_) (a := 1) (b := 6) rfl rfl (by rw [e2]; exact ⟨Nat.le_refl _, Nat.le_refl _⟩)
      exact wz_prop (vx_runS (As := [.int a2]) (rest := []) ⟨hx, hb, hml, hown, hts⟩ (c_X1_cell g hgm l L σ a2 hst _ hc33) (va_cwS 1 hts (lw_S q821 q822 q111 q823) rfl rfl rfl hd_X1_cell.2 ⟨(Nat.le_of_ble_eq_true rfl), (Nat.le_of_ble_eq_true rfl)⟩) (ww_preS hW) rfl rfl hl.1 rfl (lv_room (Nat.le_of_ble_eq_true rfl)) dX1_dusk_5 hrmx) no_v hx0 hW hlocks hout rfl e2 hrmx
    · have hs := ww_sR hs
      refine ww_xv0 (vx_runS (As := [.int a2]) (rest := []) ⟨hx, hb, hml, hown, hts⟩ (c_X1_cell g hgm l L σ a2 hst _ hc33) (va_cwS 1 hts (lw_S q821 q822 q111 q823) rfl rfl rfl hd_X1_cell.2 ⟨(Nat.le_of_ble_eq_true rfl), (Nat.le_of_ble_eq_true rfl)⟩) (ww_preS hW) rfl rfl hl.1 rfl (lv_room (Nat.le_of_ble_eq_true rfl)) dX1_dusk_5 hrm) hW (fun H locs hW => ?_)
      refine lv_iload_n hx hb dX1_dusk_8 rfl (lv_at hl 3 rfl) ?_
      obtain ⟨o40, hc38, hs⟩ := ww_bnd hs
      rcases o40 with k41 | v42
      · have hs := ww_sL hs
        have hs := ww_S hs
        have e1 : o_ = .inl k41 := congrArg Prod.fst hs
        have e2 : σ_ = bX_ σ := congrArg Prod.snd hs
        subst e1
        have hrmx := hcs.room (σ1 := bX_ σ) (σ_ := σ_) (a := 1) (b := 6) rfl rfl (by rw [e2]; exact ⟨Nat.le_refl _, Nat.le_refl _⟩)
        exact wz_prop (vx_runS (As := [.int a3]) (rest := []) ⟨hx, hb, hml, hown, hts⟩ (c_X1_hour g hgm l L σ a3 hst _ hc38) (va_cwS 1 hts (lw_S q1493 q1494 q111 q1495) rfl rfl rfl hd_X1_hour.2 ⟨(Nat.le_of_ble_eq_true rfl), (Nat.le_of_ble_eq_true rfl)⟩) (ww_preS hW) rfl rfl hl.1 rfl (lv_room (Nat.le_of_ble_eq_true rfl)) dX1_dusk_9 hrmx) no_v hx0 hW hlocks hout rfl e2 hrmx
      · have hs := ww_sR hs
        refine ww_xv0 (vx_runS (As := [.int a3]) (rest := []) ⟨hx, hb, hml, hown, hts⟩ (c_X1_hour g hgm l L σ a3 hst _ hc38) (va_cwS 1 hts (lw_S q1493 q1494 q111 q1495) rfl rfl rfl hd_X1_hour.2 ⟨(Nat.le_of_ble_eq_true rfl), (Nat.le_of_ble_eq_true rfl)⟩) (ww_preS hW) rfl rfl hl.1 rfl (lv_room (Nat.le_of_ble_eq_true rfl)) dX1_dusk_9 hrm) hW (fun H locs hW => ?_)
        refine lv_bipush (v := 64) hx hb dX1_dusk_12 (by decide) ?_
        have hp43 : pr σ 1 0 := (pr_st (hW.rd hgm) (Nat.le_of_ble_eq_true rfl))
        obtain ⟨σ44, e45, hs⟩ := ww_let hs
        obtain ⟨hs, hck⟩ := ww_ck2 hs
        have hrm1 := hcs.room (σ1 := σ44) (a := 1) (b := 64) (by rw [e45]; rfl) (by rw [e45]; rfl) hck
        refine ww_newa (atype := .boolean) hx hb (hts _ q224) hW 98 2 64 (Or.inl rfl) sole_98 (Or.inl rfl) rfl rfl rfl (by decide) rfl (Nat.le_of_ble_eq_true rfl) hrm1.1 hrm1.2 dX1_dusk_14 (fun H L hx1 hW => ?_)
        rw [← e45] at hx1 hW
        have hcs := hcs.more (σ1 := σ44) (a := 1) (b := 64) (by rw [e45]; rfl) (by rw [e45]; rfl)
        have hrm := hrm1
        have hc46 : gN_ σ 98 < gN_ σ44 98 := by rw [e45]; exact nA_lt rfl
        rw [show ow_ 98 = 98 from rfl]
        have hl : lv_has ls 7 [(0, .ref (L 1 0)), (1, .int a1), (2, .int a2), (3, .int a3)] := by rw [hx1.at hp43 (by decide)]; exact hl
        have hx0 := hx0.trans hx1
        refine lv_astore (lv' := [(4, .ref (L 98 (gN_ σ 98))), (0, .ref (L 1 0)), (1, .int a1), (2, .int a2), (3, .int a3)]) hx hb dX1_dusk_16 hl (by decide) rfl (fun ls hl => ?_)
        refine lv_iconst (v := 0) hx hb dX1_dusk_18 (by decide) ?_
        refine lv_istore (lv' := [(5, .int (0 : Int32)), (4, .ref (L 98 (gN_ σ 98))), (0, .ref (L 1 0)), (1, .int a1), (2, .int a2), (3, .int a3)]) hx hb dX1_dusk_19 hl (by decide) rfl (fun ls hl => ?_)
        exact hL21 fu_ L σ44 a1 a2 a3 (gN_ σ 98) (0 : Int32) _ _ _ _ ls hx0 hcs hrm hW (lv_sub hl [2, 3, 4, 5, 1, 0] rfl) hs
set_option maxHeartbeats 4000000 in
theorem c_X1_opens (g : wg_T) (hgm : gm g = true) (l : Launch) (L : ly_T) (σ : st_T) (a1 : Int32) (a2 : Int32) (r_ : Int32) (σ_ : st_T) (hs : m_X1_opens σ a1 a2 = some (r_, σ_)) : AI g l yX1_opens (ws_ yX1_opens cX1_opens 8 (some .int)) 4 107 [.ref (L 1 0), .int a1, .int a2] L σ r_ σ_ := by
  refine wbody.met (by decide) (Nat.le_of_ble_eq_true rfl) ?_
  intro p e s m args below meth c ls hx hb hr hml hlocks hts hown hnm hW hl
  have hown : s.vm.findClass RX1 = some m.cls := hown
  obtain ⟨L0, hL0⟩ : ∃ L0, L0 = L := ⟨_, rfl⟩
  obtain ⟨σ0, hσ0⟩ : ∃ σ0, σ0 = σ := ⟨_, rfl⟩
  rw [← hσ0, ← hL0]
  have hx0 : lext L0 σ0 L σ := by rw [hL0, hσ0]; exact lext.refl
  have hcs : bk σ0 σ 0 0 := bk.start hσ0
  have hrm : 0 ≤ cu_ σ_ - cu_ σ0 ∧ 0 ≤ su_ σ_ - su_ σ0 := ⟨Nat.zero_le _, Nat.zero_le _⟩
  have hl : lv_has ls 8 [(0, .ref (L 1 0)), (1, .int a1), (2, .int a2)] := hl
  unfold m_X1_opens at hs
  have hL8 : ∀ (n8 : Nat), ∀ (L : ly_T) (σ : st_T) (x1 : Int32) (x2 : Int32) (ix3 : Nat) (x4 : Int32) (H : Heap) (locs : List Loc) (cells slots : Nat) (ls : Array Slot), lext L0 σ0 L σ → bk σ0 σ cells slots → (cells ≤ cu_ σ_ - cu_ σ0 ∧ slots ≤ su_ σ_ - su_ σ0) → wv g L σ s H locs → lv_has ls 8 [(0, .ref (L 1 0)), (1, .int x1), (2, .int x2), (3, .ref (L 99 ix3)), (4, .int x4)] → (m_X1_opens_L8 n8) σ x1 x2 ix3 x4 = some (r_, σ_) → W p l e (wrA 4 107 σ0 σ_) s m args below meth c H locs cells slots (MQ below (wAi g L0 σ0 r_ σ_) args s (cu_ σ_ - cu_ σ0) (su_ σ_ - su_ σ0) (fun q => gz g ≤ q)) (F0 m 8 ls []) := by
    intro n8
    induction n8 with
    | zero => intro L σ x1 x2 ix3 x4 H locs cells slots ls hx0 hcs hrm hW hl hs; rw [m_X1_opens_L8] at hs; cases hs
    | succ n8 ih8 =>
      have hL68 : ∀ (n68 : Nat), ∀ (L : ly_T) (σ : st_T) (x1 : Int32) (x2 : Int32) (ix3 : Nat) (x4 : Int32) (H : Heap) (locs : List Loc) (cells slots : Nat) (ls : Array Slot), lext L0 σ0 L σ → bk σ0 σ cells slots → (cells ≤ cu_ σ_ - cu_ σ0 ∧ slots ≤ su_ σ_ - su_ σ0) → wv g L σ s H locs → lv_has ls 8 [(0, .ref (L 1 0)), (1, .int x1), (2, .int x2), (3, .ref (L 99 ix3)), (4, .int x4)] → (m_X1_opens_L68 n68) σ x1 x2 ix3 x4 = some (r_, σ_) → W p l e (wrA 4 107 σ0 σ_) s m args below meth c H locs cells slots (MQ below (wAi g L0 σ0 r_ σ_) args s (cu_ σ_ - cu_ σ0) (su_ σ_ - su_ σ0) (fun q => gz g ≤ q)) (F0 m 68 ls []) := by
        intro n68
        induction n68 with
        | zero => intro L σ x1 x2 ix3 x4 H locs cells slots ls hx0 hcs hrm hW hl hs; rw [m_X1_opens_L68] at hs; cases hs
        | succ n68 ih68 =>
          have hL197 : ∀ (n197 : Nat), ∀ (L : ly_T) (σ : st_T) (x2 : Int32) (ix3 : Nat) (x5 : Int32) (x6 : Int32) (H : Heap) (locs : List Loc) (cells slots : Nat) (ls : Array Slot), lext L0 σ0 L σ → bk σ0 σ cells slots → (cells ≤ cu_ σ_ - cu_ σ0 ∧ slots ≤ su_ σ_ - su_ σ0) → wv g L σ s H locs → lv_has ls 8 [(0, .ref (L 1 0)), (2, .int x2), (3, .ref (L 99 ix3)), (5, .int x5), (6, .int x6)] → (m_X1_opens_L197 n197) σ x2 ix3 x5 x6 = some (r_, σ_) → W p l e (wrA 4 107 σ0 σ_) s m args below meth c H locs cells slots (MQ below (wAi g L0 σ0 r_ σ_) args s (cu_ σ_ - cu_ σ0) (su_ σ_ - su_ σ0) (fun q => gz g ≤ q)) (F0 m 197 ls []) := by
            intro n197
            induction n197 with
            | zero => intro L σ x2 ix3 x5 x6 H locs cells slots ls hx0 hcs hrm hW hl hs; rw [m_X1_opens_L197] at hs; cases hs
            | succ n197 ih197 =>
              have hL246 : ∀ (L : ly_T) (σ : st_T) (x2 : Int32) (ix3 : Nat) (x5 : Int32) (x6 : Int32) (H : Heap) (locs : List Loc) (cells slots : Nat) (ls : Array Slot), lext L0 σ0 L σ → bk σ0 σ cells slots → (cells ≤ cu_ σ_ - cu_ σ0 ∧ slots ≤ su_ σ_ - su_ σ0) → wv g L σ s H locs → lv_has ls 8 [(0, .ref (L 1 0)), (2, .int x2), (3, .ref (L 99 ix3)), (5, .int x5), (6, .int x6)] → (m_X1_opens_L246 (m_X1_opens_L197 n197)) σ x2 ix3 x5 x6 = some (r_, σ_) → W p l e (wrA 4 107 σ0 σ_) s m args below meth c H locs cells slots (MQ below (wAi g L0 σ0 r_ σ_) args s (cu_ σ_ - cu_ σ0) (su_ σ_ - su_ σ0) (fun q => gz g ≤ q)) (F0 m 246 ls []) := by
                intro L σ x2 ix3 x5 x6 H locs cells slots ls hx0 hcs hrm hW hl hs
                unfold m_X1_opens_L246 at hs
                refine lv_aload_n hx hb dX1_opens_246 rfl (lv_at hl 0 rfl) ?_
                refine lv_aload_n hx hb dX1_opens_247 rfl (lv_at hl 2 rfl) ?_
                refine lv_iload hx hb dX1_opens_248 (lv_at hl 4 rfl) ?_
                refine lv_iload_n hx hb dX1_opens_250 rfl (lv_at hl 1 rfl) ?_
                obtain ⟨v3, hc1, hs⟩ := ww_bnd hs
                refine ww_ci (va_runV (As := [.ref (L 99 ix3), .int x6, .int x2]) (rest := []) ⟨hx, hb, hml, hown, hts⟩ (c_X1_onward g hgm l L σ ix3 x6 x2 _ hc1) (cwV 3 hts (lw_V q1660 q1662 qs43 q111 q1663) rfl rfl rfl hd_X1_onward ⟨(Nat.le_of_ble_eq_true rfl), (Nat.le_of_ble_eq_true rfl)⟩) (ww_preV hW (pr_st (hW.rd hgm) (Nat.le_of_ble_eq_true rfl)) (obv_0 rfl) rfl) rfl rfl hl.1 rfl (lv_room (Nat.le_of_ble_eq_true rfl)) dX1_opens_251 hrm) hW (fun H locs hW => ?_)
                refine lv_istore (lv' := [(6, .int v3), (0, .ref (L 1 0)), (2, .int x2), (3, .ref (L 99 ix3)), (5, .int x5)]) hx hb dX1_opens_254 hl (by decide) rfl (fun ls hl => ?_)
                refine lv_goto (tgt := 197) hx hb dX1_opens_256 (by decide) ?_
                exact ih197 L σ x2 ix3 x5 v3 _ _ _ _ ls hx0 hcs hrm hW (lv_sub hl [1, 2, 3, 4, 0] rfl) hs
              intro L σ x2 ix3 x5 x6 H locs cells slots ls hx0 hcs hrm hW hl hs
              rw [m_X1_opens_L197] at hs
              refine lv_iload hx hb dX1_opens_197 (lv_at hl 4 rfl) ?_
              refine lv_iconst (v := (-1)) hx hb dX1_opens_199 (by decide) ?_
              refine lv_icmp_eq (tgt := 259) hx hb dX1_opens_200 (by decide) (fun hc4 => ?_) (fun hc4 => ?_)
              · have hs := ww_T hs hc4
                refine lv_iload hx hb dX1_opens_259 (lv_at hl 3 rfl) ?_
                have hs := ww_S hs
                exact wa_i hx hb hr hlocks hx0 hcs hW (congrArg Prod.fst hs) (congrArg Prod.snd hs) dX1_opens_261
              · have hs := ww_F hs hc4
                refine lv_aload_n hx hb dX1_opens_203 rfl (lv_at hl 0 rfl) ?_
                refine gf_X1_137 hx hb hts hown hW (pr_st (hW.rd hgm) (Nat.le_of_ble_eq_true rfl)) (hW.fl hgm (pr_st (hW.rd hgm) (Nat.le_of_ble_eq_true rfl)) 27 (by decide) rfl (by decide)) dX1_opens_204 ?_
                refine lv_iload hx hb dX1_opens_207 (lv_at hl 4 rfl) ?_
                obtain ⟨hc5, hs⟩ := ww_chk hs
                refine ww_zald hx hb hW 37 0 (pr_st (hW.rd hgm) (Nat.le_of_ble_eq_true rfl)) rfl hc5 dX1_opens_209 ?_
                refine lv_if_eq (tgt := 216) hx hb dX1_opens_210 (by decide) (fun hc6 => ?_) (fun hc6 => ?_)
                · have hs := ww_T hs hc6
                  refine lv_aload_n hx hb dX1_opens_216 rfl (lv_at hl 0 rfl) ?_
                  refine gf_X1_115 hx hb hts hown hW (pr_st (hW.rd hgm) (Nat.le_of_ble_eq_true rfl)) (hW.fl hgm (pr_st (hW.rd hgm) (Nat.le_of_ble_eq_true rfl)) 20 (by decide) rfl (by decide)) dX1_opens_217 ?_
                  refine lv_aload_n hx hb dX1_opens_220 rfl (lv_at hl 0 rfl) ?_
                  refine lv_dup hx hb dX1_opens_221 rfl ?_
                  refine gf_X1_502 hx hb hts hown hW (pr_st (hW.rd hgm) (Nat.le_of_ble_eq_true rfl)) dX1_opens_222 ?_
                  refine lv_dup_x1 hx hb dX1_opens_225 rfl rfl ?_
                  refine lv_iconst (v := 1) hx hb dX1_opens_226 (by decide) ?_
                  refine lv_iadd hx hb dX1_opens_227 ?_
                  obtain ⟨σ7, e8, hs⟩ := ww_let hs
                  refine pf_X1_502 hx hb hts hown hW (pr_st (hW.rd hgm) (Nat.le_of_ble_eq_true rfl)) dX1_opens_228 (fun H locs hW => ?_)
                  have hW : wv g L σ7 s H locs := by rw [e8]; exact hW
                  obtain ⟨hx0, hcs⟩ := lx_s (σ1 := σ7) hx0 hcs (by rw [e8]; exact kp_F)
                  refine lv_iload hx hb dX1_opens_231 (lv_at hl 4 rfl) ?_
                  obtain ⟨hc9, hs⟩ := ww_chk hs
                  obtain ⟨σ10, e11, hs⟩ := ww_let hs
                  refine ww_iast hx hb hW 30 0 (pr_st (hW.rd hgm) (Nat.le_of_ble_eq_true rfl)) rfl hc9 dX1_opens_233 (fun H locs hW => ?_)
                  have hW : wv g L σ10 s H locs := by rw [e11]; exact hW
                  obtain ⟨hx0, hcs⟩ := lx_s (σ1 := σ10) hx0 hcs (by rw [e11]; exact kp_E)
                  refine lv_iload hx hb dX1_opens_234 (lv_at hl 3 rfl) ?_
                  refine lv_aload_n hx hb dX1_opens_236 rfl (lv_at hl 0 rfl) ?_
                  refine gf_X1_103 hx hb hts hown hW (pr_st (hW.rd hgm) (Nat.le_of_ble_eq_true rfl)) (hW.fl hgm (pr_st (hW.rd hgm) (Nat.le_of_ble_eq_true rfl)) 16 (by decide) rfl (by decide)) dX1_opens_237 ?_
                  refine lv_iload hx hb dX1_opens_240 (lv_at hl 4 rfl) ?_
                  refine ww_iald hx hb hW 26 0 (pr_st (hW.rd hgm) (Nat.le_of_ble_eq_true rfl)) rfl hc5 dX1_opens_242 ?_
                  refine lv_iadd hx hb dX1_opens_243 ?_
                  refine lv_istore (lv' := [(5, .int (x5 + (gA_ σ10 26 0 x6.toNatClampNeg))), (0, .ref (L 1 0)), (2, .int x2), (3, .ref (L 99 ix3)), (6, .int x6)]) hx hb dX1_opens_244 hl (by decide) rfl (fun ls hl => ?_)
                  exact hL246 L σ10 x2 ix3 (x5 + (gA_ σ10 26 0 x6.toNatClampNeg)) x6 _ _ _ _ ls hx0 hcs hrm hW (lv_sub hl [1, 2, 3, 0, 4] rfl) hs
                · have hs := ww_F hs hc6
                  refine lv_goto (tgt := 246) hx hb dX1_opens_213 (by decide) ?_
                  exact hL246 L σ x2 ix3 x5 x6 _ _ _ _ ls hx0 hcs hrm hW (lv_sub hl [0, 1, 2, 3, 4] rfl) hs
          have hL79 : ∀ (n79 : Nat), ∀ (L : ly_T) (σ : st_T) (x1 : Int32) (x2 : Int32) (ix3 : Nat) (x4 : Int32) (x5 : Int32) (H : Heap) (locs : List Loc) (cells slots : Nat) (ls : Array Slot), lext L0 σ0 L σ → bk σ0 σ cells slots → (cells ≤ cu_ σ_ - cu_ σ0 ∧ slots ≤ su_ σ_ - su_ σ0) → wv g L σ s H locs → lv_has ls 8 [(0, .ref (L 1 0)), (1, .int x1), (2, .int x2), (3, .ref (L 99 ix3)), (4, .int x4), (5, .int x5)] → (m_X1_opens_L79 (m_X1_opens_L68 n68) n79) σ x1 x2 ix3 x4 x5 = some (r_, σ_) → W p l e (wrA 4 107 σ0 σ_) s m args below meth c H locs cells slots (MQ below (wAi g L0 σ0 r_ σ_) args s (cu_ σ_ - cu_ σ0) (su_ σ_ - su_ σ0) (fun q => gz g ≤ q)) (F0 m 79 ls []) := by
            intro n79
            induction n79 with
            | zero => intro L σ x1 x2 ix3 x4 x5 H locs cells slots ls hx0 hcs hrm hW hl hs; rw [m_X1_opens_L79] at hs; cases hs
            | succ n79 ih79 =>
              have hL89 : ∀ (n89 : Nat), ∀ (L : ly_T) (σ : st_T) (x1 : Int32) (x2 : Int32) (ix3 : Nat) (x4 : Int32) (x5 : Int32) (x6 : Int32) (H : Heap) (locs : List Loc) (cells slots : Nat) (ls : Array Slot), lext L0 σ0 L σ → bk σ0 σ cells slots → (cells ≤ cu_ σ_ - cu_ σ0 ∧ slots ≤ su_ σ_ - su_ σ0) → wv g L σ s H locs → lv_has ls 8 [(0, .ref (L 1 0)), (1, .int x1), (2, .int x2), (3, .ref (L 99 ix3)), (4, .int x4), (5, .int x5), (6, .int x6)] → (m_X1_opens_L89 (m_X1_opens_L79 (m_X1_opens_L68 n68) n79) n89) σ x1 x2 ix3 x4 x5 x6 = some (r_, σ_) → W p l e (wrA 4 107 σ0 σ_) s m args below meth c H locs cells slots (MQ below (wAi g L0 σ0 r_ σ_) args s (cu_ σ_ - cu_ σ0) (su_ σ_ - su_ σ0) (fun q => gz g ≤ q)) (F0 m 89 ls []) := by
                intro n89
                induction n89 with
                | zero => intro L σ x1 x2 ix3 x4 x5 x6 H locs cells slots ls hx0 hcs hrm hW hl hs; rw [m_X1_opens_L89] at hs; cases hs
                | succ n89 ih89 =>
                  have hL171 : ∀ (L : ly_T) (σ : st_T) (x1 : Int32) (x2 : Int32) (ix3 : Nat) (x4 : Int32) (x5 : Int32) (H : Heap) (locs : List Loc) (cells slots : Nat) (ls : Array Slot), lext L0 σ0 L σ → bk σ0 σ cells slots → (cells ≤ cu_ σ_ - cu_ σ0 ∧ slots ≤ su_ σ_ - su_ σ0) → wv g L σ s H locs → lv_has ls 8 [(0, .ref (L 1 0)), (1, .int x1), (2, .int x2), (3, .ref (L 99 ix3)), (4, .int x4), (5, .int x5)] → (m_X1_opens_L171 (m_X1_opens_L79 (m_X1_opens_L68 n68) n79)) σ x1 x2 ix3 x4 x5 = some (r_, σ_) → W p l e (wrA 4 107 σ0 σ_) s m args below meth c H locs cells slots (MQ below (wAi g L0 σ0 r_ σ_) args s (cu_ σ_ - cu_ σ0) (su_ σ_ - su_ σ0) (fun q => gz g ≤ q)) (F0 m 171 ls []) := by
                    intro L σ x1 x2 ix3 x4 x5 H locs cells slots ls hx0 hcs hrm hW hl hs
                    unfold m_X1_opens_L171 at hs
                    refine lv_iinc (v := (x5 + (1 : Int32))) (lv' := [(5, .int (x5 + (1 : Int32))), (0, .ref (L 1 0)), (1, .int x1), (2, .int x2), (3, .ref (L 99 ix3)), (4, .int x4)]) hx hb dX1_opens_171 hl (k := 5) rfl rfl (by decide) rfl (fun ls hl => ?_)
                    refine lv_goto (tgt := 79) hx hb dX1_opens_174 (by decide) ?_
                    exact ih79 L σ x1 x2 ix3 x4 (x5 + (1 : Int32)) _ _ _ _ ls hx0 hcs hrm hW (lv_sub hl [1, 2, 3, 4, 5, 0] rfl) hs
                  have hL165 : ∀ (L : ly_T) (σ : st_T) (x1 : Int32) (x2 : Int32) (ix3 : Nat) (x4 : Int32) (x5 : Int32) (x6 : Int32) (H : Heap) (locs : List Loc) (cells slots : Nat) (ls : Array Slot), lext L0 σ0 L σ → bk σ0 σ cells slots → (cells ≤ cu_ σ_ - cu_ σ0 ∧ slots ≤ su_ σ_ - su_ σ0) → wv g L σ s H locs → lv_has ls 8 [(0, .ref (L 1 0)), (1, .int x1), (2, .int x2), (3, .ref (L 99 ix3)), (4, .int x4), (5, .int x5), (6, .int x6)] → (m_X1_opens_L165 (m_X1_opens_L89 (m_X1_opens_L79 (m_X1_opens_L68 n68) n79) n89)) σ x1 x2 ix3 x4 x5 x6 = some (r_, σ_) → W p l e (wrA 4 107 σ0 σ_) s m args below meth c H locs cells slots (MQ below (wAi g L0 σ0 r_ σ_) args s (cu_ σ_ - cu_ σ0) (su_ σ_ - su_ σ0) (fun q => gz g ≤ q)) (F0 m 165 ls []) := by
                    intro L σ x1 x2 ix3 x4 x5 x6 H locs cells slots ls hx0 hcs hrm hW hl hs
                    unfold m_X1_opens_L165 at hs
                    refine lv_iinc (v := (x6 + (1 : Int32))) (lv' := [(6, .int (x6 + (1 : Int32))), (0, .ref (L 1 0)), (1, .int x1), (2, .int x2), (3, .ref (L 99 ix3)), (4, .int x4), (5, .int x5)]) hx hb dX1_opens_165 hl (k := 6) rfl rfl (by decide) rfl (fun ls hl => ?_)
                    refine lv_goto (tgt := 89) hx hb dX1_opens_168 (by decide) ?_
                    exact ih89 L σ x1 x2 ix3 x4 x5 (x6 + (1 : Int32)) _ _ _ _ ls hx0 hcs hrm hW (lv_sub hl [1, 2, 3, 4, 5, 6, 0] rfl) hs
                  intro L σ x1 x2 ix3 x4 x5 x6 H locs cells slots ls hx0 hcs hrm hW hl hs
                  rw [m_X1_opens_L89] at hs
                  refine lv_iload hx hb dX1_opens_89 (lv_at hl 6 rfl) ?_
                  refine lv_iconst (v := 4) hx hb dX1_opens_91 (by decide) ?_
                  refine lv_icmp_ge (tgt := 171) hx hb dX1_opens_92 (by decide) (fun hc12 => ?_) (fun hc12 => ?_)
                  · have hs := ww_T hs hc12
                    exact hL171 L σ x1 x2 ix3 x4 x5 _ _ _ _ ls hx0 hcs hrm hW (lv_sub hl [0, 1, 2, 3, 4, 5] rfl) hs
                  · have hs := ww_F hs hc12
                    refine lv_aload_n hx hb dX1_opens_95 rfl (lv_at hl 3 rfl) ?_
                    refine lv_iload hx hb dX1_opens_96 (lv_at hl 5 rfl) ?_
                    obtain ⟨hc13, hs⟩ := ww_chk hs
                    obtain ⟨hc14, hs⟩ := ww_chk hs
                    refine ww_iald hx hb hW 99 ix3 (pr_dy hc13 rfl rfl) rfl hc14 dX1_opens_98 ?_
                    refine lv_ldcw hx hb hown (hts _ q567) dX1_opens_99 ?_
                    refine lv_icmp_ge (tgt := 171) hx hb dX1_opens_102 (by decide) (fun hc15 => ?_) (fun hc15 => ?_)
                    · have hs := ww_T hs hc15
                      exact hL171 L σ x1 x2 ix3 x4 x5 _ _ _ _ ls hx0 hcs hrm hW (lv_sub hl [0, 1, 2, 3, 4, 5] rfl) hs
                    · have hs := ww_F hs hc15
                      refine lv_iload hx hb dX1_opens_105 (lv_at hl 5 rfl) ?_
                      refine lv_iload hx hb dX1_opens_107 (lv_at hl 6 rfl) ?_
                      obtain ⟨v18, hc16, hs⟩ := ww_bnd hs
                      refine ww_ci (va_runS (As := [.int x5, .int x6]) (rest := []) ⟨hx, hb, hml, hown, hts⟩ (c_X1_next g hgm l L σ x5 x6 _ hc16) (va_cwS 2 hts (lw_S q926 q508 q111 q509) rfl rfl rfl hd_X1_next.2 ⟨(Nat.le_of_ble_eq_true rfl), (Nat.le_of_ble_eq_true rfl)⟩) (ww_preS hW) rfl rfl hl.1 rfl (lv_room (Nat.le_of_ble_eq_true rfl)) dX1_opens_109 hrm) hW (fun H locs hW => ?_)
                      refine lv_istore (lv' := [(7, .int v18), (0, .ref (L 1 0)), (1, .int x1), (2, .int x2), (3, .ref (L 99 ix3)), (4, .int x4), (5, .int x5), (6, .int x6)]) hx hb dX1_opens_112 hl (by decide) rfl (fun ls hl => ?_)
                      refine lv_aload_n hx hb dX1_opens_114 rfl (lv_at hl 1 rfl) ?_
                      refine gf_X1_44 hx hb hts hown hW (pr_st (hW.rd hgm) (Nat.le_of_ble_eq_true rfl)) (hW.fl hgm (pr_st (hW.rd hgm) (Nat.le_of_ble_eq_true rfl)) 1 (by decide) rfl (by decide)) dX1_opens_115 ?_
                      refine lv_iload hx hb dX1_opens_118 (lv_at hl 0 rfl) ?_
                      obtain ⟨v21, hc19, hs⟩ := ww_bnd hs
                      refine ww_ci (va_runV (As := [.int v18]) (rest := []) ⟨hx, hb, hml, hown, hts⟩ (c_X2_isOpen g hgm l L σ 0 v18 _ hc19) (cwV 1 hts (lw_V q1246 q548 q549 q112 q550) rfl rfl rfl hd_X2_isOpen ⟨(Nat.le_of_ble_eq_true rfl), (Nat.le_of_ble_eq_true rfl)⟩) (ww_preV hW (pr_st (hW.rd hgm) (Nat.le_of_ble_eq_true rfl)) (obv_0 rfl) rfl) rfl rfl hl.1 rfl (lv_room (Nat.le_of_ble_eq_true rfl)) dX1_opens_120 hrm) hW (fun H locs hW => ?_)
                      refine lv_if_eq (tgt := 165) hx hb dX1_opens_123 (by decide) (fun hc22 => ?_) (fun hc22 => ?_)
                      · have hs := ww_T hs hc22
                        exact hL165 L σ x1 x2 ix3 x4 x5 x6 _ _ _ _ ls hx0 hcs hrm hW (lv_sub hl [1, 2, 3, 4, 5, 6, 7] rfl) hs
                      · have hs := ww_F hs hc22
                        refine lv_aload_n hx hb dX1_opens_126 rfl (lv_at hl 4 rfl) ?_
                        refine lv_iload hx hb dX1_opens_127 (lv_at hl 6 rfl) ?_
                        refine ww_iald hx hb hW 99 ix3 (pr_dy hc13 rfl rfl) rfl hc14 dX1_opens_129 ?_
                        refine lv_aload_n hx hb dX1_opens_130 rfl (lv_at hl 1 rfl) ?_
                        refine lv_iload hx hb dX1_opens_131 (lv_at hl 0 rfl) ?_
                        obtain ⟨v25, hc23, hs⟩ := ww_bnd hs
                        refine ww_ci (va_runV (As := [.int v18]) (rest := [.int (gA_ σ 99 ix3 x5.toNatClampNeg)]) ⟨hx, hb, hml, hown, hts⟩ (c_X1_weight g hgm l L σ v18 _ hc23) (cwV 1 hts (lw_V q1656 q1658 qs42 q111 q1659) rfl rfl rfl hd_X1_weight ⟨(Nat.le_of_ble_eq_true rfl), (Nat.le_of_ble_eq_true rfl)⟩) (ww_preV hW (pr_st (hW.rd hgm) (Nat.le_of_ble_eq_true rfl)) (obv_0 rfl) rfl) rfl rfl hl.1 rfl (lv_room (Nat.le_of_ble_eq_true rfl)) dX1_opens_133 hrm) hW (fun H locs hW => ?_)
                        refine lv_iadd hx hb dX1_opens_136 ?_
                        refine lv_aload_n hx hb dX1_opens_137 rfl (lv_at hl 4 rfl) ?_
                        refine lv_iload hx hb dX1_opens_138 (lv_at hl 0 rfl) ?_
                        obtain ⟨hc26, hs⟩ := ww_chk hs
                        refine ww_iald hx hb hW 99 ix3 (pr_dy hc13 rfl rfl) rfl hc26 dX1_opens_140 ?_
                        refine lv_icmp_lt (tgt := 147) hx hb dX1_opens_141 (by decide) (fun hc27 => ?_) (fun hc27 => ?_)
                        · have hs := ww_T hs hc27
                          refine lv_aload_n hx hb dX1_opens_147 rfl (lv_at hl 4 rfl) ?_
                          refine lv_iload hx hb dX1_opens_148 (lv_at hl 0 rfl) ?_
                          refine lv_aload_n hx hb dX1_opens_150 rfl (lv_at hl 4 rfl) ?_
                          refine lv_iload hx hb dX1_opens_151 (lv_at hl 6 rfl) ?_
                          refine ww_iald hx hb hW 99 ix3 (pr_dy hc13 rfl rfl) rfl hc14 dX1_opens_153 ?_
                          refine lv_aload_n hx hb dX1_opens_154 rfl (lv_at hl 1 rfl) ?_
                          refine lv_iload hx hb dX1_opens_155 (lv_at hl 0 rfl) ?_
                          obtain ⟨v30, hc28, hs⟩ := ww_bnd hs
                          refine ww_ci (va_runV (As := [.int v18]) (rest := [.int (gA_ σ 99 ix3 x5.toNatClampNeg), .int v18, .ref (L 99 ix3)]) ⟨hx, hb, hml, hown, hts⟩ (c_X1_weight g hgm l L σ v18 _ hc28) (cwV 1 hts (lw_V q1656 q1658 qs42 q111 q1659) rfl rfl rfl hd_X1_weight ⟨(Nat.le_of_ble_eq_true rfl), (Nat.le_of_ble_eq_true rfl)⟩) (ww_preV hW (pr_st (hW.rd hgm) (Nat.le_of_ble_eq_true rfl)) (obv_0 rfl) rfl) rfl rfl hl.1 rfl (lv_room (Nat.le_of_ble_eq_true rfl)) dX1_opens_157 hrm) hW (fun H locs hW => ?_)
                          refine lv_iadd hx hb dX1_opens_160 ?_
                          obtain ⟨σ31, e32, hs⟩ := ww_let hs
                          refine ww_iast hx hb hW 99 ix3 (pr_dy hc13 rfl rfl) rfl hc26 dX1_opens_161 (fun H locs hW => ?_)
                          have hW : wv g L σ31 s H locs := by rw [e32]; exact hW
                          obtain ⟨hx0, hcs⟩ := lx_s (σ1 := σ31) hx0 hcs (by rw [e32]; exact kp_E)
                          have hc33 : ix3 < gN_ σ31 99 := by rw [e32]; exact hc13
                          refine lv_iconst (v := 1) hx hb dX1_opens_162 (by decide) ?_
                          refine lv_istore (lv' := [(4, .int (1 : Int32)), (7, .int v18), (0, .ref (L 1 0)), (1, .int x1), (2, .int x2), (3, .ref (L 99 ix3)), (5, .int x5), (6, .int x6)]) hx hb dX1_opens_163 hl (by decide) rfl (fun ls hl => ?_)
                          exact hL165 L σ31 x1 x2 ix3 (1 : Int32) x5 x6 _ _ _ _ ls hx0 hcs hrm hW (lv_sub hl [2, 3, 4, 5, 0, 6, 7] rfl) hs
                        · have hs := ww_F hs hc27
                          refine lv_goto (tgt := 165) hx hb dX1_opens_144 (by decide) ?_
                          exact hL165 L σ x1 x2 ix3 x4 x5 x6 _ _ _ _ ls hx0 hcs hrm hW (lv_sub hl [1, 2, 3, 4, 5, 6, 7] rfl) hs
              intro L σ x1 x2 ix3 x4 x5 H locs cells slots ls hx0 hcs hrm hW hl hs
              rw [m_X1_opens_L79] at hs
              refine lv_iload hx hb dX1_opens_79 (lv_at hl 5 rfl) ?_
              refine lv_bipush (v := 64) hx hb dX1_opens_81 (by decide) ?_
              refine lv_icmp_ge (tgt := 177) hx hb dX1_opens_83 (by decide) (fun hc34 => ?_) (fun hc34 => ?_)
              · have hs := ww_T hs hc34
                refine lv_goto (tgt := 68) hx hb dX1_opens_177 (by decide) ?_
                exact ih68 L σ x1 x2 ix3 x4 _ _ _ _ ls hx0 hcs hrm hW (lv_sub hl [0, 1, 2, 3, 4] rfl) hs
              · have hs := ww_F hs hc34
                refine lv_iconst (v := 0) hx hb dX1_opens_86 (by decide) ?_
                refine lv_istore (lv' := [(6, .int (0 : Int32)), (0, .ref (L 1 0)), (1, .int x1), (2, .int x2), (3, .ref (L 99 ix3)), (4, .int x4), (5, .int x5)]) hx hb dX1_opens_87 hl (by decide) rfl (fun ls hl => ?_)
                exact hL89 fu_ L σ x1 x2 ix3 x4 x5 (0 : Int32) _ _ _ _ ls hx0 hcs hrm hW (lv_sub hl [1, 2, 3, 4, 5, 6, 0] rfl) hs
          intro L σ x1 x2 ix3 x4 H locs cells slots ls hx0 hcs hrm hW hl hs
          rw [m_X1_opens_L68] at hs
          refine lv_iload hx hb dX1_opens_68 (lv_at hl 4 rfl) ?_
          refine lv_if_eq (tgt := 180) hx hb dX1_opens_70 (by decide) (fun hc35 => ?_) (fun hc35 => ?_)
          · have hs := ww_T hs hc35
            refine lv_aload_n hx hb dX1_opens_180 rfl (lv_at hl 3 rfl) ?_
            refine lv_iload_n hx hb dX1_opens_181 rfl (lv_at hl 1 rfl) ?_
            obtain ⟨hc36, hs⟩ := ww_chk hs
            obtain ⟨hc37, hs⟩ := ww_chk hs
            refine ww_iald hx hb hW 99 ix3 (pr_dy hc36 rfl rfl) rfl hc37 dX1_opens_182 ?_
            refine lv_ldcw hx hb hown (hts _ q567) dX1_opens_183 ?_
            refine lv_icmp_ne (tgt := 191) hx hb dX1_opens_186 (by decide) (fun hc38 => ?_) (fun hc38 => ?_)
            · have hs := ww_F hs hc38
              refine lv_iconst (v := 0) hx hb dX1_opens_191 (by decide) ?_
              refine lv_istore (lv' := [(5, .int (0 : Int32)), (0, .ref (L 1 0)), (1, .int x1), (2, .int x2), (3, .ref (L 99 ix3)), (4, .int x4)]) hx hb dX1_opens_192 hl (by decide) rfl (fun ls hl => ?_)
              refine lv_iload_n hx hb dX1_opens_194 rfl (lv_at hl 2 rfl) ?_
              refine lv_istore (lv' := [(6, .int x1), (5, .int (0 : Int32)), (0, .ref (L 1 0)), (1, .int x1), (2, .int x2), (3, .ref (L 99 ix3)), (4, .int x4)]) hx hb dX1_opens_195 hl (by decide) rfl (fun ls hl => ?_)
              exact hL197 fu_ L σ x2 ix3 (0 : Int32) x1 _ _ _ _ ls hx0 hcs hrm hW (lv_sub hl [2, 4, 5, 1, 0] rfl) hs
            · have hs := ww_T hs hc38
              refine lv_iconst (v := (-1)) hx hb dX1_opens_189 (by decide) ?_
              have hs := ww_S hs
              exact wa_i hx hb hr hlocks hx0 hcs hW (congrArg Prod.fst hs) (congrArg Prod.snd hs) dX1_opens_190
          · have hs := ww_F hs hc35
            refine lv_iconst (v := 0) hx hb dX1_opens_73 (by decide) ?_
            refine lv_istore (lv' := [(4, .int (0 : Int32)), (0, .ref (L 1 0)), (1, .int x1), (2, .int x2), (3, .ref (L 99 ix3))]) hx hb dX1_opens_74 hl (by decide) rfl (fun ls hl => ?_)
            refine lv_iconst (v := 0) hx hb dX1_opens_76 (by decide) ?_
            refine lv_istore (lv' := [(5, .int (0 : Int32)), (4, .int (0 : Int32)), (0, .ref (L 1 0)), (1, .int x1), (2, .int x2), (3, .ref (L 99 ix3))]) hx hb dX1_opens_77 hl (by decide) rfl (fun ls hl => ?_)
            exact hL79 fu_ L σ x1 x2 ix3 (0 : Int32) (0 : Int32) _ _ _ _ ls hx0 hcs hrm hW (lv_sub hl [2, 3, 4, 5, 1, 0] rfl) hs
      have hL55 : ∀ (L : ly_T) (σ : st_T)  (H : Heap) (locs : List Loc) (cells slots : Nat) (ls : Array Slot), lext L0 σ0 L σ → bk σ0 σ cells slots → (cells ≤ cu_ σ_ - cu_ σ0 ∧ slots ≤ su_ σ_ - su_ σ0) → wv g L σ s H locs → lv_has ls 8 [] → m_X1_opens_L55 σ = some (r_, σ_) → W p l e (wrA 4 107 σ0 σ_) s m args below meth c H locs cells slots (MQ below (wAi g L0 σ0 r_ σ_) args s (cu_ σ_ - cu_ σ0) (su_ σ_ - su_ σ0) (fun q => gz g ≤ q)) (F0 m 55 ls []) := by
        intro L σ H locs cells slots ls hx0 hcs hrm hW hl hs
        unfold m_X1_opens_L55 at hs
        refine lv_iconst (v := (-1)) hx hb dX1_opens_55 (by decide) ?_
        have hs := ww_S hs
        exact wa_i hx hb hr hlocks hx0 hcs hW (congrArg Prod.fst hs) (congrArg Prod.snd hs) dX1_opens_56
      intro L σ x1 x2 ix3 x4 H locs cells slots ls hx0 hcs hrm hW hl hs
      rw [m_X1_opens_L8] at hs
      refine lv_iload hx hb dX1_opens_8 (lv_at hl 4 rfl) ?_
      refine lv_bipush (v := 64) hx hb dX1_opens_10 (by decide) ?_
      refine lv_icmp_ge (tgt := 28) hx hb dX1_opens_12 (by decide) (fun hc39 => ?_) (fun hc39 => ?_)
      · have hs := ww_T hs hc39
        refine lv_aload_n hx hb dX1_opens_28 rfl (lv_at hl 0 rfl) ?_
        refine lv_iconst (v := 0) hx hb dX1_opens_29 (by decide) ?_
        obtain ⟨σ40, e41, hs⟩ := ww_let hs
        refine pf_X1_502 hx hb hts hown hW (pr_st (hW.rd hgm) (Nat.le_of_ble_eq_true rfl)) dX1_opens_30 (fun H locs hW => ?_)
        have hW : wv g L σ40 s H locs := by rw [e41]; exact hW
        obtain ⟨hx0, hcs⟩ := lx_s (σ1 := σ40) hx0 hcs (by rw [e41]; exact kp_F)
        refine lv_aload_n hx hb dX1_opens_33 rfl (lv_at hl 0 rfl) ?_
        refine gf_X1_44 hx hb hts hown hW (pr_st (hW.rd hgm) (Nat.le_of_ble_eq_true rfl)) (hW.fl hgm (pr_st (hW.rd hgm) (Nat.le_of_ble_eq_true rfl)) 1 (by decide) rfl (by decide)) dX1_opens_34 ?_
        refine lv_iload_n hx hb dX1_opens_37 rfl (lv_at hl 1 rfl) ?_
        obtain ⟨v44, hc42, hs⟩ := ww_bnd hs
        refine ww_ci (va_runV (As := [.int x1]) (rest := []) ⟨hx, hb, hml, hown, hts⟩ (c_X2_isOpen g hgm l L σ40 0 x1 _ hc42) (cwV 1 hts (lw_V q1246 q548 q549 q112 q550) rfl rfl rfl hd_X2_isOpen ⟨(Nat.le_of_ble_eq_true rfl), (Nat.le_of_ble_eq_true rfl)⟩) (ww_preV hW (pr_st (hW.rd hgm) (Nat.le_of_ble_eq_true rfl)) (obv_0 rfl) rfl) rfl rfl hl.1 rfl (lv_room (Nat.le_of_ble_eq_true rfl)) dX1_opens_38 hrm) hW (fun H locs hW => ?_)
        refine lv_if_eq (tgt := 55) hx hb dX1_opens_41 (by decide) (fun hc45 => ?_) (fun hc45 => ?_)
        · have hs := ww_T hs hc45
          exact hL55 L σ40 _ _ _ _ ls hx0 hcs hrm hW (lv_sub hl [] rfl) hs
        · have hs := ww_F hs hc45
          refine lv_aload_n hx hb dX1_opens_44 rfl (lv_at hl 0 rfl) ?_
          refine gf_X1_44 hx hb hts hown hW (pr_st (hW.rd hgm) (Nat.le_of_ble_eq_true rfl)) (hW.fl hgm (pr_st (hW.rd hgm) (Nat.le_of_ble_eq_true rfl)) 1 (by decide) rfl (by decide)) dX1_opens_45 ?_
          refine lv_iload_n hx hb dX1_opens_48 rfl (lv_at hl 2 rfl) ?_
          obtain ⟨v48, hc46, hs⟩ := ww_bnd hs
          refine ww_ci (va_runV (As := [.int x2]) (rest := []) ⟨hx, hb, hml, hown, hts⟩ (c_X2_isOpen g hgm l L σ40 0 x2 _ hc46) (cwV 1 hts (lw_V q1246 q548 q549 q112 q550) rfl rfl rfl hd_X2_isOpen ⟨(Nat.le_of_ble_eq_true rfl), (Nat.le_of_ble_eq_true rfl)⟩) (ww_preV hW (pr_st (hW.rd hgm) (Nat.le_of_ble_eq_true rfl)) (obv_0 rfl) rfl) rfl rfl hl.1 rfl (lv_room (Nat.le_of_ble_eq_true rfl)) dX1_opens_49 hrm) hW (fun H locs hW => ?_)
          refine lv_if_ne (tgt := 57) hx hb dX1_opens_52 (by decide) (fun hc49 => ?_) (fun hc49 => ?_)
          · have hs := ww_F hs hc49
            refine lv_aload_n hx hb dX1_opens_57 rfl (lv_at hl 3 rfl) ?_
            refine lv_iload_n hx hb dX1_opens_58 rfl (lv_at hl 2 rfl) ?_
            refine lv_aload_n hx hb dX1_opens_59 rfl (lv_at hl 0 rfl) ?_
            refine lv_iload_n hx hb dX1_opens_60 rfl (lv_at hl 2 rfl) ?_
            obtain ⟨v52, hc50, hs⟩ := ww_bnd hs
            refine ww_ci (va_runV (As := [.int x2]) (rest := [.int x2, .ref (L 99 ix3)]) ⟨hx, hb, hml, hown, hts⟩ (c_X1_weight g hgm l L σ40 x2 _ hc50) (cwV 1 hts (lw_V q1656 q1658 qs42 q111 q1659) rfl rfl rfl hd_X1_weight ⟨(Nat.le_of_ble_eq_true rfl), (Nat.le_of_ble_eq_true rfl)⟩) (ww_preV hW (pr_st (hW.rd hgm) (Nat.le_of_ble_eq_true rfl)) (obv_0 rfl) rfl) rfl rfl hl.1 rfl (lv_room (Nat.le_of_ble_eq_true rfl)) dX1_opens_61 hrm) hW (fun H locs hW => ?_)
            obtain ⟨hc53, hs⟩ := ww_chk hs
            obtain ⟨hc54, hs⟩ := ww_chk hs
            obtain ⟨σ55, e56, hs⟩ := ww_let hs
            refine ww_iast hx hb hW 99 ix3 (pr_dy hc53 rfl rfl) rfl hc54 dX1_opens_64 (fun H locs hW => ?_)
            have hW : wv g L σ55 s H locs := by rw [e56]; exact hW
            obtain ⟨hx0, hcs⟩ := lx_s (σ1 := σ55) hx0 hcs (by rw [e56]; exact kp_E)
            have hc57 : ix3 < gN_ σ55 99 := by rw [e56]; exact hc53
            refine lv_iconst (v := 1) hx hb dX1_opens_65 (by decide) ?_
            refine lv_istore (lv' := [(4, .int (1 : Int32)), (0, .ref (L 1 0)), (1, .int x1), (2, .int x2), (3, .ref (L 99 ix3))]) hx hb dX1_opens_66 hl (by decide) rfl (fun ls hl => ?_)
            exact hL68 fu_ L σ55 x1 x2 ix3 (1 : Int32) _ _ _ _ ls hx0 hcs hrm hW (lv_sub hl [1, 2, 3, 4, 0] rfl) hs
          · have hs := ww_T hs hc49
            exact hL55 L σ40 _ _ _ _ ls hx0 hcs hrm hW (lv_sub hl [] rfl) hs
      · have hs := ww_F hs hc39
        refine lv_aload_n hx hb dX1_opens_15 rfl (lv_at hl 3 rfl) ?_
        refine lv_iload hx hb dX1_opens_16 (lv_at hl 4 rfl) ?_
        refine lv_ldcw hx hb hown (hts _ q567) dX1_opens_18 ?_
        obtain ⟨hc58, hs⟩ := ww_chk hs
        obtain ⟨hc59, hs⟩ := ww_chk hs
        obtain ⟨σ60, e61, hs⟩ := ww_let hs
        refine ww_iast hx hb hW 99 ix3 (pr_dy hc58 rfl rfl) rfl hc59 dX1_opens_21 (fun H locs hW => ?_)
        have hW : wv g L σ60 s H locs := by rw [e61]; exact hW
        obtain ⟨hx0, hcs⟩ := lx_s (σ1 := σ60) hx0 hcs (by rw [e61]; exact kp_E)
        have hc62 : ix3 < gN_ σ60 99 := by rw [e61]; exact hc58
        refine lv_iinc (v := (x4 + (1 : Int32))) (lv' := [(4, .int (x4 + (1 : Int32))), (0, .ref (L 1 0)), (1, .int x1), (2, .int x2), (3, .ref (L 99 ix3))]) hx hb dX1_opens_22 hl (k := 4) rfl rfl (by decide) rfl (fun ls hl => ?_)
        refine lv_goto (tgt := 8) hx hb dX1_opens_25 (by decide) ?_
        exact ih8 L σ60 x1 x2 ix3 (x4 + (1 : Int32)) _ _ _ _ ls hx0 hcs hrm hW (lv_sub hl [1, 2, 3, 4, 0] rfl) hs
  refine lv_bipush (v := 64) hx hb dX1_opens_0 (by decide) ?_
  have hp63 : pr σ 1 0 := (pr_st (hW.rd hgm) (Nat.le_of_ble_eq_true rfl))
  obtain ⟨σ64, e65, hs⟩ := ww_let hs
  obtain ⟨hs, hck⟩ := ww_ck2 hs
  have hrm1 := hcs.room (σ1 := σ64) (a := 1) (b := 64) (by rw [e65]; rfl) (by rw [e65]; rfl) hck
  refine ww_newa (atype := .int) hx hb (hts _ q201) hW 99 0 64 (Or.inl rfl) sole_99 (Or.inl rfl) rfl rfl rfl (by decide) rfl (Nat.le_of_ble_eq_true rfl) hrm1.1 hrm1.2 dX1_opens_2 (fun H L hx1 hW => ?_)
  rw [← e65] at hx1 hW
  have hcs := hcs.more (σ1 := σ64) (a := 1) (b := 64) (by rw [e65]; rfl) (by rw [e65]; rfl)
  have hrm := hrm1
  have hc66 : gN_ σ 99 < gN_ σ64 99 := by rw [e65]; exact nA_lt rfl
  rw [show ow_ 99 = 99 from rfl]
  have hl : lv_has ls 8 [(0, .ref (L 1 0)), (1, .int a1), (2, .int a2)] := by rw [hx1.at hp63 (by decide)]; exact hl
  have hx0 := hx0.trans hx1
  refine lv_astore_n (lv' := [(3, .ref (L 99 (gN_ σ 99))), (0, .ref (L 1 0)), (1, .int a1), (2, .int a2)]) hx hb dX1_opens_4 rfl hl (by decide) rfl (fun ls hl => ?_)
  refine lv_iconst (v := 0) hx hb dX1_opens_5 (by decide) ?_
  refine lv_istore (lv' := [(4, .int (0 : Int32)), (3, .ref (L 99 (gN_ σ 99))), (0, .ref (L 1 0)), (1, .int a1), (2, .int a2)]) hx hb dX1_opens_6 hl (by decide) rfl (fun ls hl => ?_)
  exact hL8 fu_ L σ64 a1 a2 (gN_ σ 99) (0 : Int32) _ _ _ _ ls hx0 hcs hrm hW (lv_sub hl [2, 3, 4, 1, 0] rfl) hs
set_option maxHeartbeats 4000000 in
theorem c_X1_gap (g : wg_T) (hgm : gm g = true) (l : Launch) (L : ly_T) (σ : st_T) (a1 : Int32) (a2 : Int32) (a3 : Int32) (hst : l.stackTraces = false) (o_ : Nat ⊕ Int32) (σ_ : st_T) (hs : m_X1_gap σ a1 a2 a3 = some (o_, σ_)) : YI g l yX1_gap (ws_ yX1_gap cX1_gap 4 (some .int)) 9 160 [.ref (L 1 0), .int a1, .int a2, .int a3] L σ o_ σ_ := by
  refine xbody.met (by decide) (Nat.le_of_ble_eq_true rfl) ?_
  intro p e s m args below meth c ls hx hb hr hml hlocks hts hown hnm hout hW hl
  have hown : s.vm.findClass RX1 = some m.cls := hown
  obtain ⟨L0, hL0⟩ : ∃ L0, L0 = L := ⟨_, rfl⟩
  obtain ⟨σ0, hσ0⟩ : ∃ σ0, σ0 = σ := ⟨_, rfl⟩
  rw [← hσ0, ← hL0]
  have hx0 : lext L0 σ0 L σ := by rw [hL0, hσ0]; exact lext.refl
  have hcs : bk σ0 σ 0 0 := bk.start hσ0
  have hrm : 0 ≤ cu_ σ_ - cu_ σ0 ∧ 0 ≤ su_ σ_ - su_ σ0 := ⟨Nat.zero_le _, Nat.zero_le _⟩
  have hl : lv_has ls 4 [(0, .ref (L 1 0)), (1, .int a1), (2, .int a2), (3, .int a3)] := hl
  unfold m_X1_gap at hs
  have hL42 : ∀ (L : ly_T) (σ : st_T) (t0 : Int32) (H : Heap) (locs : List Loc) (cells slots : Nat) (ls : Array Slot), lext L0 σ0 L σ → bk σ0 σ cells slots → (cells ≤ cu_ σ_ - cu_ σ0 ∧ slots ≤ su_ σ_ - su_ σ0) → wv g L σ s H locs → lv_has ls 4 [] → m_X1_gap_L42 σ t0 = some (o_, σ_) → W p l e (wrA 9 160 σ0 σ_) s m args below meth c H locs cells slots (vx_MQ below (yXi g L0 σ0 o_ σ_) (yX g L0 σ0 o_ σ_) args s (cu_ σ_ - cu_ σ0) (su_ σ_ - su_ σ0) (fun q => gz g ≤ q)) (F0 m 42 ls [.int t0]) := by
    intro L σ t0 H locs cells slots ls hx0 hcs hrm hW hl hs
    unfold m_X1_gap_L42 at hs
    have hs := ww_S hs
    exact wz_i hx hb hr hlocks hx0 hcs hW (congrArg Prod.fst hs) (congrArg Prod.snd hs) dX1_gap_42
  have hL41 : ∀ (L : ly_T) (σ : st_T)  (H : Heap) (locs : List Loc) (cells slots : Nat) (ls : Array Slot), lext L0 σ0 L σ → bk σ0 σ cells slots → (cells ≤ cu_ σ_ - cu_ σ0 ∧ slots ≤ su_ σ_ - su_ σ0) → wv g L σ s H locs → lv_has ls 4 [] → (m_X1_gap_L41 m_X1_gap_L42) σ = some (o_, σ_) → W p l e (wrA 9 160 σ0 σ_) s m args below meth c H locs cells slots (vx_MQ below (yXi g L0 σ0 o_ σ_) (yX g L0 σ0 o_ σ_) args s (cu_ σ_ - cu_ σ0) (su_ σ_ - su_ σ0) (fun q => gz g ≤ q)) (F0 m 41 ls []) := by
    intro L σ H locs cells slots ls hx0 hcs hrm hW hl hs
    unfold m_X1_gap_L41 at hs
    refine lv_iconst (v := (-1)) hx hb dX1_gap_41 (by decide) ?_
    exact hL42 L σ (-1 : Int32) _ _ _ _ ls hx0 hcs hrm hW (lv_sub hl [] rfl) hs
  refine lv_iload_n hx hb dX1_gap_0 rfl (lv_at hl 1 rfl) ?_
  obtain ⟨o3, hc1, hs⟩ := ww_bnd hs
  rcases o3 with k4 | v5
  · have hs := ww_sL hs
    have hs := ww_S hs
    have e1 : o_ = .inl k4 := congrArg Prod.fst hs
    have e2 : σ_ = bX_ σ := congrArg Prod.snd hs
    subst e1
    have hrmx := hcs.room (σ1 := bX_ σ) (σ_ := σ_) (a := 1) (b := 6) rfl rfl (by rw [e2]; exact ⟨Nat.le_refl _, Nat.le_refl _⟩)
    exact wz_prop (vx_runS (As := [.int a1]) (rest := []) ⟨hx, hb, hml, hown, hts⟩ (c_X1_cell g hgm l L σ a1 hst _ hc1) (va_cwS 1 hts (lw_S q821 q822 q111 q823) rfl rfl rfl hd_X1_cell.2 ⟨(Nat.le_of_ble_eq_true rfl), (Nat.le_of_ble_eq_true rfl)⟩) (ww_preS hW) rfl rfl hl.1 rfl (lv_room (Nat.le_of_ble_eq_true rfl)) dX1_gap_1 hrmx) no_v hx0 hW hlocks hout rfl e2 hrmx
  · have hs := ww_sR hs
    refine ww_xv0 (vx_runS (As := [.int a1]) (rest := []) ⟨hx, hb, hml, hown, hts⟩ (c_X1_cell g hgm l L σ a1 hst _ hc1) (va_cwS 1 hts (lw_S q821 q822 q111 q823) rfl rfl rfl hd_X1_cell.2 ⟨(Nat.le_of_ble_eq_true rfl), (Nat.le_of_ble_eq_true rfl)⟩) (ww_preS hW) rfl rfl hl.1 rfl (lv_room (Nat.le_of_ble_eq_true rfl)) dX1_gap_1 hrm) hW (fun H locs hW => ?_)
    refine lv_iload_n hx hb dX1_gap_4 rfl (lv_at hl 2 rfl) ?_
    obtain ⟨o8, hc6, hs⟩ := ww_bnd hs
    rcases o8 with k9 | v10
    · have hs := ww_sL hs
      have hs := ww_S hs
      have e1 : o_ = .inl k9 := congrArg Prod.fst hs
      have e2 : σ_ = bX_ σ := congrArg Prod.snd hs
      subst e1
      have hrmx := hcs.room (σ1 := bX_ σ) (σ_ := σ_) (a := 1) (b := 6) rfl rfl (by rw [e2]; exact ⟨Nat.le_refl _, Nat.le_refl _⟩)
      exact wz_prop (vx_runS (As := [.int a2]) (rest := []) ⟨hx, hb, hml, hown, hts⟩ (c_X1_cell g hgm l L σ a2 hst _ hc6) (va_cwS 1 hts (lw_S q821 q822 q111 q823) rfl rfl rfl hd_X1_cell.2 ⟨(Nat.le_of_ble_eq_true rfl), (Nat.le_of_ble_eq_true rfl)⟩) (ww_preS hW) rfl rfl hl.1 rfl (lv_room (Nat.le_of_ble_eq_true rfl)) dX1_gap_5 hrmx) no_v hx0 hW hlocks hout rfl e2 hrmx
    · have hs := ww_sR hs
      refine ww_xv0 (vx_runS (As := [.int a2]) (rest := []) ⟨hx, hb, hml, hown, hts⟩ (c_X1_cell g hgm l L σ a2 hst _ hc6) (va_cwS 1 hts (lw_S q821 q822 q111 q823) rfl rfl rfl hd_X1_cell.2 ⟨(Nat.le_of_ble_eq_true rfl), (Nat.le_of_ble_eq_true rfl)⟩) (ww_preS hW) rfl rfl hl.1 rfl (lv_room (Nat.le_of_ble_eq_true rfl)) dX1_gap_5 hrm) hW (fun H locs hW => ?_)
      refine lv_aload_n hx hb dX1_gap_8 rfl (lv_at hl 0 rfl) ?_
      refine lv_iload_n hx hb dX1_gap_9 rfl (lv_at hl 1 rfl) ?_
      refine lv_iload_n hx hb dX1_gap_10 rfl (lv_at hl 2 rfl) ?_
      obtain ⟨v13, σ14, hc11, hs⟩ := ww_bn2 hs
      have hl : lv_has ls 4 [(0, .ref (L 1 0)), (3, .int a3)] := lv_sub hl [0, 3] rfl
      have hp15 : pr σ 1 0 := (pr_st (hW.rd hgm) (Nat.le_of_ble_eq_true rfl))
      obtain ⟨hc16, hs⟩ := ww_chk hs
      obtain ⟨hs, hck⟩ := ww_ck2 hs
      have hrm1 := hcs.roomC hc16 hck
      refine wa_ci (va_runV (As := [.int a1, .int a2]) (rest := []) ⟨hx, hb, hml, hown, hts⟩ (c_X1_opens g hgm l L σ a1 a2 _ _ hc11) (cwV 2 hts (lw_V q1652 q1654 qs41 q111 q1655) rfl rfl rfl hd_X1_opens ⟨(Nat.le_of_ble_eq_true rfl), (Nat.le_of_ble_eq_true rfl)⟩) (ww_preV hW (pr_st (hW.rd hgm) (Nat.le_of_ble_eq_true rfl)) (obv_0 rfl) rfl) rfl rfl hl.1 rfl (lv_room (Nat.le_of_ble_eq_true rfl)) dX1_gap_11 hrm1) hW (fun H locs L hx1 hW => ?_)
      have hcs := hcs.call hc16
      have hrm := hrm1
      have hl : lv_has ls 4 [(0, .ref (L 1 0)), (3, .int a3)] := by rw [hx1.at hp15 (by decide)]; exact hl
      have hx0 := hx0.trans hx1
      refine lv_iconst (v := (-1)) hx hb dX1_gap_14 (by decide) ?_
      refine lv_icmp_eq (tgt := 41) hx hb dX1_gap_15 (by decide) (fun hc17 => ?_) (fun hc17 => ?_)
      · have hs := ww_T hs hc17
        exact hL41 L σ14 _ _ _ _ ls hx0 hcs hrm hW (lv_sub hl [] rfl) hs
      · have hs := ww_F hs hc17
        refine lv_iload_n hx hb dX1_gap_18 rfl (lv_at hl 1 rfl) ?_
        refine lv_iconst (v := 0) hx hb dX1_gap_19 (by decide) ?_
        refine lv_aload_n hx hb dX1_gap_20 rfl (lv_at hl 0 rfl) ?_
        refine gf_X1_502 hx hb hts hown hW (pr_st (hW.rd hgm) (Nat.le_of_ble_eq_true rfl)) dX1_gap_21 ?_
        refine lv_iconst (v := 1) hx hb dX1_gap_24 (by decide) ?_
        refine lv_isub hx hb dX1_gap_25 ?_
        obtain ⟨v20, hc18, hs⟩ := ww_bnd hs
        refine ww_ci (va_runS (As := [.int a3, .int (0 : Int32), .int ((gF_ σ14 1 38 0) - (1 : Int32))]) (rest := []) ⟨hx, hb, hml, hown, hts⟩ (c_X1_in g hgm l L σ14 a3 (0 : Int32) ((gF_ σ14 1 38 0) - (1 : Int32)) _ hc18) (va_cwS 3 hts (lw_S q824 q825 q111 q826) rfl rfl rfl hd_X1_in.2 ⟨(Nat.le_of_ble_eq_true rfl), (Nat.le_of_ble_eq_true rfl)⟩) (ww_preS hW) rfl rfl hl.1 rfl (lv_room (Nat.le_of_ble_eq_true rfl)) dX1_gap_26 hrm) hW (fun H locs hW => ?_)
        refine lv_if_eq (tgt := 41) hx hb dX1_gap_29 (by decide) (fun hc21 => ?_) (fun hc21 => ?_)
        · have hs := ww_T hs hc21
          exact hL41 L σ14 _ _ _ _ ls hx0 hcs hrm hW (lv_sub hl [] rfl) hs
        · have hs := ww_F hs hc21
          refine lv_aload_n hx hb dX1_gap_32 rfl (lv_at hl 0 rfl) ?_
          refine gf_X1_115 hx hb hts hown hW (pr_st (hW.rd hgm) (Nat.le_of_ble_eq_true rfl)) (hW.fl hgm (pr_st (hW.rd hgm) (Nat.le_of_ble_eq_true rfl)) 20 (by decide) rfl (by decide)) dX1_gap_33 ?_
          refine lv_iload_n hx hb dX1_gap_36 rfl (lv_at hl 1 rfl) ?_
          obtain ⟨hc22, hs⟩ := ww_chk hs
          refine ww_iald hx hb hW 30 0 (pr_st (hW.rd hgm) (Nat.le_of_ble_eq_true rfl)) rfl hc22 dX1_gap_37 ?_
          refine lv_goto (tgt := 42) hx hb dX1_gap_38 (by decide) ?_
          exact hL42 L σ14 (gA_ σ14 30 0 a3.toNatClampNeg) _ _ _ _ ls hx0 hcs hrm hW (lv_sub hl [] rfl) hs
set_option maxHeartbeats 4000000 in
theorem c_X12_of (g : wg_T) (hgm : gm g = true) (l : Launch) (L : ly_T) (σ : st_T) (i0 : Nat) (a1 : Int32) (a2 : Int32) (r_ : Int32) (hs : m_X12_of σ i0 a1 a2 = some r_) : CI g l yX12_of (ws_ yX12_of cX12_of 3 (some .int)) 2 60 0 0 [.ref (L 91 i0), .int a1, .int a2] L σ r_ σ := by
  refine wbody.met (by decide) (Nat.le_of_ble_eq_true rfl) ?_
  intro p e s m args below meth c ls hx hb hr hml hlocks hts hown hnm hW hl
  have hown : s.vm.findClass RX12 = some m.cls := hown
  have hl : lv_has ls 3 [(0, .ref (L 91 i0)), (1, .int a1), (2, .int a2)] := hl
  unfold m_X12_of at hs
  have hL44 : ∀ (σ : st_T) (t0 : Int32) (H : Heap) (locs : List Loc) (ls : Array Slot), wv g L σ s H locs → lv_has ls 3 [] → (m_X12_of_L44 i0) σ t0 = some r_ → W p l e (wrm 2 60 0 0) s m args below meth c H locs 0 0 (MQ below (wQi g L r_ σ) args s 0 0 (fun q => gz g ≤ q)) (F0 m 44 ls [.int t0]) := by
    intro σ t0 H locs ls hW hl hs
    unfold m_X12_of_L44 at hs
    have hs := ww_S hs
    exact we_i hx hb hr hlocks hW hs rfl (Nat.le_of_ble_eq_true rfl) (Nat.le_of_ble_eq_true rfl) dX12_of_44
  have hL43 : ∀ (σ : st_T)  (H : Heap) (locs : List Loc) (ls : Array Slot), wv g L σ s H locs → lv_has ls 3 [] → (m_X12_of_L43 i0 (m_X12_of_L44 i0)) σ = some r_ → W p l e (wrm 2 60 0 0) s m args below meth c H locs 0 0 (MQ below (wQi g L r_ σ) args s 0 0 (fun q => gz g ≤ q)) (F0 m 43 ls []) := by
    intro σ H locs ls hW hl hs
    unfold m_X12_of_L43 at hs
    refine lv_iconst (v := 0) hx hb dX12_of_43 (by decide) ?_
    exact hL44 σ (0 : Int32) _ _ ls hW (lv_sub hl [] rfl) hs
  have hL39 : ∀ (σ : st_T)  (H : Heap) (locs : List Loc) (ls : Array Slot), wv g L σ s H locs → lv_has ls 3 [] → (m_X12_of_L39 i0 (m_X12_of_L44 i0)) σ = some r_ → W p l e (wrm 2 60 0 0) s m args below meth c H locs 0 0 (MQ below (wQi g L r_ σ) args s 0 0 (fun q => gz g ≤ q)) (F0 m 39 ls []) := by
    intro σ H locs ls hW hl hs
    unfold m_X12_of_L39 at hs
    refine lv_iconst (v := 1) hx hb dX12_of_39 (by decide) ?_
    refine lv_goto (tgt := 44) hx hb dX12_of_40 (by decide) ?_
    exact hL44 σ (1 : Int32) _ _ ls hW (lv_sub hl [] rfl) hs
  refine lv_aload_n hx hb dX12_of_0 rfl (lv_at hl 0 rfl) ?_
  obtain ⟨hc1, hs⟩ := ww_chk hs
  obtain ⟨hc2, hs⟩ := ww_chk hs
  refine gf_X12_7 hx hb hts hown hW (pr_dy hc1 rfl rfl) hc2 dX12_of_1 ?_
  refine lv_bipush (v := 60) hx hb dX12_of_4 (by decide) ?_
  refine lv_icmp_ne (tgt := 17) hx hb dX12_of_6 (by decide) (fun hc3 => ?_) (fun hc3 => ?_)
  · have hs := ww_F hs hc3
    refine lv_aload_n hx hb dX12_of_17 rfl (lv_at hl 0 rfl) ?_
    refine gf_X12_7 hx hb hts hown hW (pr_dy hc1 rfl rfl) hc2 dX12_of_18 ?_
    refine lv_bipush (v := 62) hx hb dX12_of_21 (by decide) ?_
    refine lv_icmp_ne (tgt := 34) hx hb dX12_of_23 (by decide) (fun hc4 => ?_) (fun hc4 => ?_)
    · have hs := ww_F hs hc4
      refine lv_iload_n hx hb dX12_of_34 rfl (lv_at hl 1 rfl) ?_
      refine lv_iload_n hx hb dX12_of_35 rfl (lv_at hl 2 rfl) ?_
      refine lv_icmp_ne (tgt := 43) hx hb dX12_of_36 (by decide) (fun hc5 => ?_) (fun hc5 => ?_)
      · have hs := ww_F hs hc5
        exact hL43 σ _ _ ls hW (lv_sub hl [] rfl) hs
      · have hs := ww_T hs hc5
        exact hL39 σ _ _ ls hW (lv_sub hl [] rfl) hs
    · have hs := ww_T hs hc4
      refine lv_iload_n hx hb dX12_of_26 rfl (lv_at hl 1 rfl) ?_
      refine lv_iload_n hx hb dX12_of_27 rfl (lv_at hl 2 rfl) ?_
      refine lv_icmp_le (tgt := 43) hx hb dX12_of_28 (by decide) (fun hc6 => ?_) (fun hc6 => ?_)
      · have hs := ww_T hs hc6
        exact hL43 σ _ _ ls hW (lv_sub hl [] rfl) hs
      · have hs := ww_F hs hc6
        refine lv_goto (tgt := 39) hx hb dX12_of_31 (by decide) ?_
        exact hL39 σ _ _ ls hW (lv_sub hl [] rfl) hs
  · have hs := ww_T hs hc3
    refine lv_iload_n hx hb dX12_of_9 rfl (lv_at hl 1 rfl) ?_
    refine lv_iload_n hx hb dX12_of_10 rfl (lv_at hl 2 rfl) ?_
    refine lv_icmp_ge (tgt := 43) hx hb dX12_of_11 (by decide) (fun hc7 => ?_) (fun hc7 => ?_)
    · have hs := ww_T hs hc7
      exact hL43 σ _ _ ls hW (lv_sub hl [] rfl) hs
    · have hs := ww_F hs hc7
      refine lv_goto (tgt := 39) hx hb dX12_of_14 (by decide) ?_
      exact hL39 σ _ _ ls hW (lv_sub hl [] rfl) hs
set_option maxHeartbeats 4000000 in
theorem c_X13_init (g : wg_T) (hgm : gm g = false) (l : Launch) (L : ly_T) (σ : st_T) (i0 : Nat) (i1 : Nat) (i2 : Nat) (i3 : Nat) (σ_ : st_T) (hs : m_X13_init σ i0 i1 i2 i3 = some σ_) : CV g l yX13_init (ws_ yX13_init cX13_init 4 none) 2 60 0 0 [.ref (L 91 i0), .ref (L 91 i1), .ref (L 91 i2), .ref (L 91 i3)] L σ σ_ := by
  refine wbody.met (by decide) (Nat.le_of_ble_eq_true rfl) ?_
  intro p e s m args below meth c ls hx hb hr hml hlocks hts hown hnm hW hl
  have hown : s.vm.findClass RX13 = some m.cls := hown
  have hl : lv_has ls 4 [(0, .ref (L 91 i0)), (1, .ref (L 91 i1)), (2, .ref (L 91 i2)), (3, .ref (L 91 i3))] := hl
  unfold m_X13_init at hs
  refine lv_aload_n hx hb dX13_init_0 rfl (lv_at hl 0 rfl) ?_
  refine W.objInit hx hb hown (hts _ q1111) (hts _ q159) (hts _ q160) rfl (hl.1.trans hml.symm) rfl dX13_init_1 (Nat.le_of_ble_eq_true rfl) (Nat.le_of_ble_eq_true rfl) ?_
  refine lv_aload_n hx hb dX13_init_4 rfl (lv_at hl 0 rfl) ?_
  refine lv_aload_n hx hb dX13_init_5 rfl (lv_at hl 1 rfl) ?_
  obtain ⟨hc1, hs⟩ := ww_chk hs
  obtain ⟨hc2, hs⟩ := ww_chk hs
  obtain ⟨hc3, hs⟩ := ww_chk hs
  obtain ⟨σ4, e5, hs⟩ := ww_let hs
  refine ww_markF (d := (3, 91, 0)) hx hb hts hown (hnm.trans rfl) hW 91 i0 0 i1 (pr_dy hc1 rfl rfl) (tgd_3 (pr_dy hc3 rfl rfl)) (obv_6 rfl hc2) rfl (by decide) (Nat.le_of_ble_eq_true rfl) in_X13 tyX13_ok nmX13 rfl (Nat.le_of_ble_eq_true rfl) (hts _ q1112) (fun _ h => h) rfl rfl rfl (fun _ => rfl) (fun _ => rfl) (congrArg Value.ref fp_M3.symm) dX13_init_6 (fun H locs hW => ?_)
  have hW : wv g L σ4 s H locs := by rw [e5]; exact hW
  have hc6 : i0 < gN_ σ4 91 := by rw [e5]; exact hc1
  have hc7 : i1 < gN_ σ4 91 := by rw [e5]; exact hc3
  refine lv_aload_n hx hb dX13_init_9 rfl (lv_at hl 0 rfl) ?_
  refine lv_aload_n hx hb dX13_init_10 rfl (lv_at hl 2 rfl) ?_
  obtain ⟨hc8, hs⟩ := ww_chk hs
  obtain ⟨hc9, hs⟩ := ww_chk hs
  obtain ⟨σ10, e11, hs⟩ := ww_let hs
  refine ww_markF (d := (3, 91, 0)) hx hb hts hown (hnm.trans rfl) hW 91 i0 1 i2 (pr_dy hc6 rfl rfl) (tgd_3 (pr_dy hc9 rfl rfl)) (obv_6 rfl hc8) rfl (by decide) (Nat.le_of_ble_eq_true rfl) in_X13 tyX13_ok nmX13 rfl (Nat.le_of_ble_eq_true rfl) (hts _ q1113) (fun _ h => h) rfl rfl rfl (fun _ => rfl) (fun _ => rfl) (congrArg Value.ref fp_M3.symm) dX13_init_11 (fun H locs hW => ?_)
  have hW : wv g L σ10 s H locs := by rw [e11]; exact hW
  have hc12 : i0 < gN_ σ10 91 := by rw [e11]; exact hc6
  have hc13 : i1 < gN_ σ10 91 := by rw [e11]; exact hc7
  have hc14 : i2 < gN_ σ10 91 := by rw [e11]; exact hc9
  refine lv_aload_n hx hb dX13_init_14 rfl (lv_at hl 0 rfl) ?_
  refine lv_aload_n hx hb dX13_init_15 rfl (lv_at hl 3 rfl) ?_
  obtain ⟨hc15, hs⟩ := ww_chk hs
  obtain ⟨hc16, hs⟩ := ww_chk hs
  obtain ⟨σ17, e18, hs⟩ := ww_let hs
  refine ww_markF (d := (3, 91, 0)) hx hb hts hown (hnm.trans rfl) hW 91 i0 2 i3 (pr_dy hc12 rfl rfl) (tgd_3 (pr_dy hc16 rfl rfl)) (obv_6 rfl hc15) rfl (by decide) (Nat.le_of_ble_eq_true rfl) in_X13 tyX13_ok nmX13 rfl (Nat.le_of_ble_eq_true rfl) (hts _ q1114) (fun _ h => h) rfl rfl rfl (fun _ => rfl) (fun _ => rfl) (congrArg Value.ref fp_M3.symm) dX13_init_16 (fun H locs hW => ?_)
  have hW : wv g L σ17 s H locs := by rw [e18]; exact hW
  have hc19 : i0 < gN_ σ17 91 := by rw [e18]; exact hc12
  have hc20 : i1 < gN_ σ17 91 := by rw [e18]; exact hc13
  have hc21 : i2 < gN_ σ17 91 := by rw [e18]; exact hc14
  have hc22 : i3 < gN_ σ17 91 := by rw [e18]; exact hc16
  have hs := ww_S hs
  exact we_v hx hb hr hlocks hW hs (Nat.le_of_ble_eq_true rfl) (Nat.le_of_ble_eq_true rfl) dX13_init_19
set_option maxHeartbeats 4000000 in
theorem c_X16_init (g : wg_T) (hgm : gm g = false) (l : Launch) (L : ly_T) (σ : st_T) (i0 : Nat) (a1 : Int32) (a2 : Int32) (a3 : Int32) (σ_ : st_T) (hs : m_X16_init σ i0 a1 a2 a3 = some σ_) : AV g l yX16_init (ws_ yX16_init cX16_init 4 none) 2 60 [.ref (L 80 i0), .int a1, .int a2, .int a3] L σ  σ_ := by
  refine wbody.met (by decide) (Nat.le_of_ble_eq_true rfl) ?_
  intro p e s m args below meth c ls hx hb hr hml hlocks hts hown hnm hW hl
  have hown : s.vm.findClass RX16 = some m.cls := hown
  obtain ⟨L0, hL0⟩ : ∃ L0, L0 = L := ⟨_, rfl⟩
  obtain ⟨σ0, hσ0⟩ : ∃ σ0, σ0 = σ := ⟨_, rfl⟩
  rw [← hσ0, ← hL0]
  have hx0 : lext L0 σ0 L σ := by rw [hL0, hσ0]; exact lext.refl
  have hcs : bk σ0 σ 0 0 := bk.start hσ0
  have hrm : 0 ≤ cu_ σ_ - cu_ σ0 ∧ 0 ≤ su_ σ_ - su_ σ0 := ⟨Nat.zero_le _, Nat.zero_le _⟩
  have hl : lv_has ls 4 [(0, .ref (L 80 i0)), (1, .int a1), (2, .int a2), (3, .int a3)] := hl
  unfold m_X16_init at hs
  refine lv_aload_n hx hb dX16_init_0 rfl (lv_at hl 0 rfl) ?_
  refine W.objInit hx hb hown (hts _ q1158) (hts _ q159) (hts _ q160) rfl (hl.1.trans hml.symm) rfl dX16_init_1 (Nat.le_of_ble_eq_true rfl) (Nat.le_of_ble_eq_true rfl) ?_
  refine lv_aload_n hx hb dX16_init_4 rfl (lv_at hl 0 rfl) ?_
  refine lv_bipush (v := 20) hx hb dX16_init_5 (by decide) ?_
  obtain ⟨hc1, hs⟩ := ww_chk hs
  have hp2 : pr σ 80 i0 := (pr_dy hc1 rfl rfl)
  obtain ⟨σ3, e4, hs⟩ := ww_let hs
  obtain ⟨hs, hck⟩ := ww_ck1 hs
  have hrm1 := hcs.room (σ1 := σ3) (a := 1) (b := 20) (by rw [e4]; rfl) (by rw [e4]; rfl) hck
  refine ww_newa (atype := .int) hx hb (hts _ q201) hW 81 0 20 (Or.inl rfl) sole_81 (Or.inr hgm) rfl rfl rfl (by decide) rfl (Nat.le_of_ble_eq_true rfl) hrm1.1 hrm1.2 dX16_init_7 (fun H L hx1 hW => ?_)
  rw [← e4] at hx1 hW
  have hcs := hcs.more (σ1 := σ3) (a := 1) (b := 20) (by rw [e4]; rfl) (by rw [e4]; rfl)
  have hrm := hrm1
  have hc5 : i0 < gN_ σ3 80 := Nat.lt_of_lt_of_le hc1 (hx1.2.1 80)
  have hc6 : gN_ σ 81 < gN_ σ3 81 := by rw [e4]; exact nA_lt rfl
  rw [show ow_ 81 = 81 from rfl]
  have hl : lv_has ls 4 [(0, .ref (L 80 i0)), (1, .int a1), (2, .int a2), (3, .int a3)] := by rw [hx1.at hp2 (by decide)]; exact hl
  refine ww_stk (st1 := [.ref (L 81 (gN_ σ 81)), .ref (L 80 i0)]) (by rw [hx1.at hp2 (by decide)]) ?_
  have hx0 := hx0.trans hx1
  obtain ⟨hc7, hs⟩ := ww_chk hs
  have hpq : pr σ3 81 (gN_ σ 81) := (pr_dy hc6 rfl rfl)
  rw [hc7] at hpq
  obtain ⟨σ8, e9, hs⟩ := ww_let hs
  refine ww_markF (d := (2, 81, 0)) hx hb hts hown (hnm.trans rfl) hW 80 i0 3 0 (pr_dy hc5 rfl rfl) (tgd_2 hpq) (obv_0 rfl) rfl (by decide) (Nat.le_of_ble_eq_true rfl) in_X16 tyX16_ok nmX16 rfl (Nat.le_of_ble_eq_true rfl) (hts _ q1165) (fun _ h => h) rfl rfl rfl (fun _ => rfl) (fun _ => rfl) (by rw [hc7]; rfl) dX16_init_9 (fun H locs hW => ?_)
  have hW : wv g L σ8 s H locs := by rw [e9]; exact hW
  obtain ⟨hx0, hcs⟩ := lx_s (σ1 := σ8) hx0 hcs (by rw [e9]; exact (kp_M (by decide)))
  have hc10 : i0 < gN_ σ8 80 := by rw [e9]; exact hc5
  have hc11 : (gN_ σ 81) < gN_ σ8 81 := by rw [e9]; exact hc6
  refine lv_aload_n hx hb dX16_init_12 rfl (lv_at hl 0 rfl) ?_
  refine lv_bipush (v := 20) hx hb dX16_init_13 (by decide) ?_
  have hp12 : pr σ8 80 i0 := (pr_dy hc10 rfl rfl)
  obtain ⟨σ13, e14, hs⟩ := ww_let hs
  obtain ⟨hs, hck⟩ := ww_ck1 hs
  have hrm1 := hcs.room (σ1 := σ13) (a := 1) (b := 20) (by rw [e14]; rfl) (by rw [e14]; rfl) hck
  refine ww_newa (atype := .int) hx hb (hts _ q201) hW 82 0 20 (Or.inl rfl) sole_82 (Or.inr hgm) rfl rfl rfl (by decide) rfl (Nat.le_of_ble_eq_true rfl) hrm1.1 hrm1.2 dX16_init_15 (fun H L hx1 hW => ?_)
  rw [← e14] at hx1 hW
  have hcs := hcs.more (σ1 := σ13) (a := 1) (b := 20) (by rw [e14]; rfl) (by rw [e14]; rfl)
  have hrm := hrm1
  have hc15 : i0 < gN_ σ13 80 := Nat.lt_of_lt_of_le hc10 (hx1.2.1 80)
  have hc16 : (gN_ σ 81) < gN_ σ13 81 := Nat.lt_of_lt_of_le hc11 (hx1.2.1 81)
  have hc17 : gN_ σ8 82 < gN_ σ13 82 := by rw [e14]; exact nA_lt rfl
  rw [show ow_ 82 = 82 from rfl]
  have hl : lv_has ls 4 [(0, .ref (L 80 i0)), (1, .int a1), (2, .int a2), (3, .int a3)] := by rw [hx1.at hp12 (by decide)]; exact hl
  refine ww_stk (st1 := [.ref (L 82 (gN_ σ8 82)), .ref (L 80 i0)]) (by rw [hx1.at hp12 (by decide)]) ?_
  have hx0 := hx0.trans hx1
  obtain ⟨hc18, hs⟩ := ww_chk hs
  have hpq : pr σ13 82 (gN_ σ8 82) := (pr_dy hc17 rfl rfl)
  rw [hc18] at hpq
  obtain ⟨σ19, e20, hs⟩ := ww_let hs
  refine ww_markF (d := (2, 82, 0)) hx hb hts hown (hnm.trans rfl) hW 80 i0 4 0 (pr_dy hc15 rfl rfl) (tgd_2 hpq) (obv_0 rfl) rfl (by decide) (Nat.le_of_ble_eq_true rfl) in_X16 tyX16_ok nmX16 rfl (Nat.le_of_ble_eq_true rfl) (hts _ q1167) (fun _ h => h) rfl rfl rfl (fun _ => rfl) (fun _ => rfl) (by rw [hc18]; rfl) dX16_init_17 (fun H locs hW => ?_)
  have hW : wv g L σ19 s H locs := by rw [e20]; exact hW
  obtain ⟨hx0, hcs⟩ := lx_s (σ1 := σ19) hx0 hcs (by rw [e20]; exact (kp_M (by decide)))
  have hc21 : i0 < gN_ σ19 80 := by rw [e20]; exact hc15
  have hc22 : (gN_ σ 81) < gN_ σ19 81 := by rw [e20]; exact hc16
  have hc23 : (gN_ σ8 82) < gN_ σ19 82 := by rw [e20]; exact hc17
  refine lv_aload_n hx hb dX16_init_20 rfl (lv_at hl 0 rfl) ?_
  refine lv_iload_n hx hb dX16_init_21 rfl (lv_at hl 1 rfl) ?_
  obtain ⟨σ24, e25, hs⟩ := ww_let hs
  refine ww_putF hx hb hts hown (hnm.trans rfl) hW 80 i0 0 (pr_dy hc21 rfl rfl) (obv_0 rfl) rfl in_X16 tyX16_ok nmX16 rfl (Nat.le_of_ble_eq_true rfl) (hts _ q1159) (fun _ h => h) rfl rfl rfl rfl rfl dX16_init_22 (fun H locs hW => ?_)
  have hW : wv g L σ24 s H locs := by rw [e25]; exact hW
  obtain ⟨hx0, hcs⟩ := lx_s (σ1 := σ24) hx0 hcs (by rw [e25]; exact kp_F)
  have hc26 : i0 < gN_ σ24 80 := by rw [e25]; exact hc21
  have hc27 : (gN_ σ 81) < gN_ σ24 81 := by rw [e25]; exact hc22
  have hc28 : (gN_ σ8 82) < gN_ σ24 82 := by rw [e25]; exact hc23
  refine lv_aload_n hx hb dX16_init_25 rfl (lv_at hl 0 rfl) ?_
  refine lv_iload_n hx hb dX16_init_26 rfl (lv_at hl 2 rfl) ?_
  obtain ⟨σ29, e30, hs⟩ := ww_let hs
  refine ww_putF hx hb hts hown (hnm.trans rfl) hW 80 i0 1 (pr_dy hc26 rfl rfl) (obv_0 rfl) rfl in_X16 tyX16_ok nmX16 rfl (Nat.le_of_ble_eq_true rfl) (hts _ q1161) (fun _ h => h) rfl rfl rfl rfl rfl dX16_init_27 (fun H locs hW => ?_)
  have hW : wv g L σ29 s H locs := by rw [e30]; exact hW
  obtain ⟨hx0, hcs⟩ := lx_s (σ1 := σ29) hx0 hcs (by rw [e30]; exact kp_F)
  have hc31 : i0 < gN_ σ29 80 := by rw [e30]; exact hc26
  have hc32 : (gN_ σ 81) < gN_ σ29 81 := by rw [e30]; exact hc27
  have hc33 : (gN_ σ8 82) < gN_ σ29 82 := by rw [e30]; exact hc28
  refine lv_aload_n hx hb dX16_init_30 rfl (lv_at hl 0 rfl) ?_
  refine lv_iload_n hx hb dX16_init_31 rfl (lv_at hl 3 rfl) ?_
  obtain ⟨σ34, e35, hs⟩ := ww_let hs
  refine ww_putF hx hb hts hown (hnm.trans rfl) hW 80 i0 2 (pr_dy hc31 rfl rfl) (obv_0 rfl) rfl in_X16 tyX16_ok nmX16 rfl (Nat.le_of_ble_eq_true rfl) (hts _ q1163) (fun _ h => h) rfl rfl rfl rfl rfl dX16_init_32 (fun H locs hW => ?_)
  have hW : wv g L σ34 s H locs := by rw [e35]; exact hW
  obtain ⟨hx0, hcs⟩ := lx_s (σ1 := σ34) hx0 hcs (by rw [e35]; exact kp_F)
  have hc36 : i0 < gN_ σ34 80 := by rw [e35]; exact hc31
  have hc37 : (gN_ σ 81) < gN_ σ34 81 := by rw [e35]; exact hc32
  have hc38 : (gN_ σ8 82) < gN_ σ34 82 := by rw [e35]; exact hc33
  have hs := ww_S hs
  exact wa_v hx hb hr hlocks hx0 hcs hW hs dX16_init_35
set_option maxHeartbeats 4000000 in
theorem c_X18_init (g : wg_T) (hgm : gm g = false) (l : Launch) (L : ly_T) (σ : st_T) (i0 : Nat) (a1 : Int32) (a2 : Int32) (σ_ : st_T) (hs : m_X18_init σ i0 a1 a2 = some σ_) : CV g l yX18_init (ws_ yX18_init cX18_init 3 none) 2 60 0 0 [.ref (L 84 i0), .int a1, .int a2] L σ σ_ := by
  refine wbody.met (by decide) (Nat.le_of_ble_eq_true rfl) ?_
  intro p e s m args below meth c ls hx hb hr hml hlocks hts hown hnm hW hl
  have hown : s.vm.findClass RX18 = some m.cls := hown
  have hl : lv_has ls 3 [(0, .ref (L 84 i0)), (1, .int a1), (2, .int a2)] := hl
  unfold m_X18_init at hs
  refine lv_aload_n hx hb dX18_init_0 rfl (lv_at hl 0 rfl) ?_
  refine W.objInit hx hb hown (hts _ q619) (hts _ q159) (hts _ q160) rfl (hl.1.trans hml.symm) rfl dX18_init_1 (Nat.le_of_ble_eq_true rfl) (Nat.le_of_ble_eq_true rfl) ?_
  refine lv_aload_n hx hb dX18_init_4 rfl (lv_at hl 0 rfl) ?_
  refine lv_iload_n hx hb dX18_init_5 rfl (lv_at hl 1 rfl) ?_
  obtain ⟨hc1, hs⟩ := ww_chk hs
  obtain ⟨σ2, e3, hs⟩ := ww_let hs
  refine ww_putF hx hb hts hown (hnm.trans rfl) hW 84 i0 0 (pr_dy hc1 rfl rfl) (obv_0 rfl) rfl in_X18 tyX18_ok nmX18 rfl (Nat.le_of_ble_eq_true rfl) (hts _ q620) (fun _ h => h) rfl rfl rfl rfl rfl dX18_init_6 (fun H locs hW => ?_)
  have hW : wv g L σ2 s H locs := by rw [e3]; exact hW
  have hc4 : i0 < gN_ σ2 84 := by rw [e3]; exact hc1
  refine lv_aload_n hx hb dX18_init_9 rfl (lv_at hl 0 rfl) ?_
  refine lv_iload_n hx hb dX18_init_10 rfl (lv_at hl 2 rfl) ?_
  obtain ⟨σ5, e6, hs⟩ := ww_let hs
  refine ww_putF hx hb hts hown (hnm.trans rfl) hW 84 i0 1 (pr_dy hc4 rfl rfl) (obv_0 rfl) rfl in_X18 tyX18_ok nmX18 rfl (Nat.le_of_ble_eq_true rfl) (hts _ q622) (fun _ h => h) rfl rfl rfl rfl rfl dX18_init_11 (fun H locs hW => ?_)
  have hW : wv g L σ5 s H locs := by rw [e6]; exact hW
  have hc7 : i0 < gN_ σ5 84 := by rw [e6]; exact hc4
  have hs := ww_S hs
  exact we_v hx hb hr hlocks hW hs (Nat.le_of_ble_eq_true rfl) (Nat.le_of_ble_eq_true rfl) dX18_init_14
set_option maxHeartbeats 4000000 in
theorem c_X2_init (g : wg_T) (hgm : gm g = false) (l : Launch) (L : ly_T) (σ : st_T) (i0 : Nat) (σ_ : st_T) (hs : m_X2_init σ i0 = some σ_) : AV g l yX2_init (ws_ yX2_init cX2_init 1 none) 2 60 [.ref (L 50 i0)] L σ  σ_ := by
  refine wbody.met (by decide) (Nat.le_of_ble_eq_true rfl) ?_
  intro p e s m args below meth c ls hx hb hr hml hlocks hts hown hnm hW hl
  have hown : s.vm.findClass RX2 = some m.cls := hown
  obtain ⟨L0, hL0⟩ : ∃ L0, L0 = L := ⟨_, rfl⟩
  obtain ⟨σ0, hσ0⟩ : ∃ σ0, σ0 = σ := ⟨_, rfl⟩
  rw [← hσ0, ← hL0]
  have hx0 : lext L0 σ0 L σ := by rw [hL0, hσ0]; exact lext.refl
  have hcs : bk σ0 σ 0 0 := bk.start hσ0
  have hrm : 0 ≤ cu_ σ_ - cu_ σ0 ∧ 0 ≤ su_ σ_ - su_ σ0 := ⟨Nat.zero_le _, Nat.zero_le _⟩
  have hl : lv_has ls 1 [(0, .ref (L 50 i0))] := hl
  unfold m_X2_init at hs
  refine lv_aload_n hx hb dX2_init_0 rfl (lv_at hl 0 rfl) ?_
  refine W.objInit hx hb hown (hts _ q166) (hts _ q159) (hts _ q160) rfl (hl.1.trans hml.symm) rfl dX2_init_1 (Nat.le_of_ble_eq_true rfl) (Nat.le_of_ble_eq_true rfl) ?_
  refine lv_aload_n hx hb dX2_init_4 rfl (lv_at hl 0 rfl) ?_
  refine lv_bipush (v := 64) hx hb dX2_init_5 (by decide) ?_
  obtain ⟨hc1, hs⟩ := ww_chk hs
  have hp2 : pr σ 50 i0 := (pr_dy hc1 rfl rfl)
  obtain ⟨σ3, e4, hs⟩ := ww_let hs
  obtain ⟨hs, hck⟩ := ww_ck1 hs
  have hrm1 := hcs.room (σ1 := σ3) (a := 1) (b := 64) (by rw [e4]; rfl) (by rw [e4]; rfl) hck
  refine ww_newa (atype := .int) hx hb (hts _ q201) hW 51 0 64 (Or.inl rfl) sole_51 (Or.inr hgm) rfl rfl rfl (by decide) rfl (Nat.le_of_ble_eq_true rfl) hrm1.1 hrm1.2 dX2_init_7 (fun H L hx1 hW => ?_)
  rw [← e4] at hx1 hW
  have hcs := hcs.more (σ1 := σ3) (a := 1) (b := 64) (by rw [e4]; rfl) (by rw [e4]; rfl)
  have hrm := hrm1
  have hc5 : i0 < gN_ σ3 50 := Nat.lt_of_lt_of_le hc1 (hx1.2.1 50)
  have hc6 : gN_ σ 51 < gN_ σ3 51 := by rw [e4]; exact nA_lt rfl
  rw [show ow_ 51 = 51 from rfl]
  have hl : lv_has ls 1 [(0, .ref (L 50 i0))] := by rw [hx1.at hp2 (by decide)]; exact hl
  refine ww_stk (st1 := [.ref (L 51 (gN_ σ 51)), .ref (L 50 i0)]) (by rw [hx1.at hp2 (by decide)]) ?_
  have hx0 := hx0.trans hx1
  obtain ⟨hc7, hs⟩ := ww_chk hs
  have hpq : pr σ3 51 (gN_ σ 51) := (pr_dy hc6 rfl rfl)
  rw [hc7] at hpq
  obtain ⟨σ8, e9, hs⟩ := ww_let hs
  refine ww_markF (d := (2, 51, 0)) hx hb hts hown (hnm.trans rfl) hW 50 i0 0 0 (pr_dy hc5 rfl rfl) (tgd_2 hpq) (obv_0 rfl) rfl (by decide) (Nat.le_of_ble_eq_true rfl) in_X2 tyX2_ok nmX2 rfl (Nat.le_of_ble_eq_true rfl) (hts _ q167) (fun _ h => h) rfl rfl rfl (fun _ => rfl) (fun _ => rfl) (by rw [hc7]; rfl) dX2_init_9 (fun H locs hW => ?_)
  have hW : wv g L σ8 s H locs := by rw [e9]; exact hW
  obtain ⟨hx0, hcs⟩ := lx_s (σ1 := σ8) hx0 hcs (by rw [e9]; exact (kp_M (by decide)))
  have hc10 : i0 < gN_ σ8 50 := by rw [e9]; exact hc5
  have hc11 : (gN_ σ 51) < gN_ σ8 51 := by rw [e9]; exact hc6
  refine lv_aload_n hx hb dX2_init_12 rfl (lv_at hl 0 rfl) ?_
  refine lv_bipush (v := 64) hx hb dX2_init_13 (by decide) ?_
  have hp12 : pr σ8 50 i0 := (pr_dy hc10 rfl rfl)
  obtain ⟨σ13, e14, hs⟩ := ww_let hs
  obtain ⟨hs, hck⟩ := ww_ck1 hs
  have hrm1 := hcs.room (σ1 := σ13) (a := 1) (b := 64) (by rw [e14]; rfl) (by rw [e14]; rfl) hck
  refine ww_newa (atype := .int) hx hb (hts _ q201) hW 52 0 64 (Or.inl rfl) sole_52 (Or.inr hgm) rfl rfl rfl (by decide) rfl (Nat.le_of_ble_eq_true rfl) hrm1.1 hrm1.2 dX2_init_15 (fun H L hx1 hW => ?_)
  rw [← e14] at hx1 hW
  have hcs := hcs.more (σ1 := σ13) (a := 1) (b := 64) (by rw [e14]; rfl) (by rw [e14]; rfl)
  have hrm := hrm1
  have hc15 : i0 < gN_ σ13 50 := Nat.lt_of_lt_of_le hc10 (hx1.2.1 50)
  have hc16 : (gN_ σ 51) < gN_ σ13 51 := Nat.lt_of_lt_of_le hc11 (hx1.2.1 51)
  have hc17 : gN_ σ8 52 < gN_ σ13 52 := by rw [e14]; exact nA_lt rfl
  rw [show ow_ 52 = 52 from rfl]
  have hl : lv_has ls 1 [(0, .ref (L 50 i0))] := by rw [hx1.at hp12 (by decide)]; exact hl
  refine ww_stk (st1 := [.ref (L 52 (gN_ σ8 52)), .ref (L 50 i0)]) (by rw [hx1.at hp12 (by decide)]) ?_
  have hx0 := hx0.trans hx1
  obtain ⟨hc18, hs⟩ := ww_chk hs
  have hpq : pr σ13 52 (gN_ σ8 52) := (pr_dy hc17 rfl rfl)
  rw [hc18] at hpq
  obtain ⟨σ19, e20, hs⟩ := ww_let hs
  refine ww_markF (d := (2, 52, 0)) hx hb hts hown (hnm.trans rfl) hW 50 i0 1 0 (pr_dy hc15 rfl rfl) (tgd_2 hpq) (obv_0 rfl) rfl (by decide) (Nat.le_of_ble_eq_true rfl) in_X2 tyX2_ok nmX2 rfl (Nat.le_of_ble_eq_true rfl) (hts _ q169) (fun _ h => h) rfl rfl rfl (fun _ => rfl) (fun _ => rfl) (by rw [hc18]; rfl) dX2_init_17 (fun H locs hW => ?_)
  have hW : wv g L σ19 s H locs := by rw [e20]; exact hW
  obtain ⟨hx0, hcs⟩ := lx_s (σ1 := σ19) hx0 hcs (by rw [e20]; exact (kp_M (by decide)))
  have hc21 : i0 < gN_ σ19 50 := by rw [e20]; exact hc15
  have hc22 : (gN_ σ 51) < gN_ σ19 51 := by rw [e20]; exact hc16
  have hc23 : (gN_ σ8 52) < gN_ σ19 52 := by rw [e20]; exact hc17
  refine lv_aload_n hx hb dX2_init_20 rfl (lv_at hl 0 rfl) ?_
  refine lv_bipush (v := 64) hx hb dX2_init_21 (by decide) ?_
  have hp24 : pr σ19 50 i0 := (pr_dy hc21 rfl rfl)
  obtain ⟨σ25, e26, hs⟩ := ww_let hs
  obtain ⟨hs, hck⟩ := ww_ck1 hs
  have hrm1 := hcs.room (σ1 := σ25) (a := 1) (b := 64) (by rw [e26]; rfl) (by rw [e26]; rfl) hck
  refine ww_newa (atype := .int) hx hb (hts _ q201) hW 53 0 64 (Or.inl rfl) sole_53 (Or.inr hgm) rfl rfl rfl (by decide) rfl (Nat.le_of_ble_eq_true rfl) hrm1.1 hrm1.2 dX2_init_23 (fun H L hx1 hW => ?_)
  rw [← e26] at hx1 hW
  have hcs := hcs.more (σ1 := σ25) (a := 1) (b := 64) (by rw [e26]; rfl) (by rw [e26]; rfl)
  have hrm := hrm1
  have hc27 : i0 < gN_ σ25 50 := Nat.lt_of_lt_of_le hc21 (hx1.2.1 50)
  have hc28 : (gN_ σ 51) < gN_ σ25 51 := Nat.lt_of_lt_of_le hc22 (hx1.2.1 51)
  have hc29 : (gN_ σ8 52) < gN_ σ25 52 := Nat.lt_of_lt_of_le hc23 (hx1.2.1 52)
  have hc30 : gN_ σ19 53 < gN_ σ25 53 := by rw [e26]; exact nA_lt rfl
  rw [show ow_ 53 = 53 from rfl]
  have hl : lv_has ls 1 [(0, .ref (L 50 i0))] := by rw [hx1.at hp24 (by decide)]; exact hl
  refine ww_stk (st1 := [.ref (L 53 (gN_ σ19 53)), .ref (L 50 i0)]) (by rw [hx1.at hp24 (by decide)]) ?_
  have hx0 := hx0.trans hx1
  obtain ⟨hc31, hs⟩ := ww_chk hs
  have hpq : pr σ25 53 (gN_ σ19 53) := (pr_dy hc30 rfl rfl)
  rw [hc31] at hpq
  obtain ⟨σ32, e33, hs⟩ := ww_let hs
  refine ww_markF (d := (2, 53, 0)) hx hb hts hown (hnm.trans rfl) hW 50 i0 2 0 (pr_dy hc27 rfl rfl) (tgd_2 hpq) (obv_0 rfl) rfl (by decide) (Nat.le_of_ble_eq_true rfl) in_X2 tyX2_ok nmX2 rfl (Nat.le_of_ble_eq_true rfl) (hts _ q171) (fun _ h => h) rfl rfl rfl (fun _ => rfl) (fun _ => rfl) (by rw [hc31]; rfl) dX2_init_25 (fun H locs hW => ?_)
  have hW : wv g L σ32 s H locs := by rw [e33]; exact hW
  obtain ⟨hx0, hcs⟩ := lx_s (σ1 := σ32) hx0 hcs (by rw [e33]; exact (kp_M (by decide)))
  have hc34 : i0 < gN_ σ32 50 := by rw [e33]; exact hc27
  have hc35 : (gN_ σ 51) < gN_ σ32 51 := by rw [e33]; exact hc28
  have hc36 : (gN_ σ8 52) < gN_ σ32 52 := by rw [e33]; exact hc29
  have hc37 : (gN_ σ19 53) < gN_ σ32 53 := by rw [e33]; exact hc30
  refine lv_aload_n hx hb dX2_init_28 rfl (lv_at hl 0 rfl) ?_
  refine lv_bipush (v := 64) hx hb dX2_init_29 (by decide) ?_
  have hp38 : pr σ32 50 i0 := (pr_dy hc34 rfl rfl)
  obtain ⟨σ39, e40, hs⟩ := ww_let hs
  obtain ⟨hs, hck⟩ := ww_ck1 hs
  have hrm1 := hcs.room (σ1 := σ39) (a := 1) (b := 64) (by rw [e40]; rfl) (by rw [e40]; rfl) hck
  refine ww_newa (atype := .int) hx hb (hts _ q201) hW 54 0 64 (Or.inl rfl) sole_54 (Or.inr hgm) rfl rfl rfl (by decide) rfl (Nat.le_of_ble_eq_true rfl) hrm1.1 hrm1.2 dX2_init_31 (fun H L hx1 hW => ?_)
  rw [← e40] at hx1 hW
  have hcs := hcs.more (σ1 := σ39) (a := 1) (b := 64) (by rw [e40]; rfl) (by rw [e40]; rfl)
  have hrm := hrm1
  have hc41 : i0 < gN_ σ39 50 := Nat.lt_of_lt_of_le hc34 (hx1.2.1 50)
  have hc42 : (gN_ σ 51) < gN_ σ39 51 := Nat.lt_of_lt_of_le hc35 (hx1.2.1 51)
  have hc43 : (gN_ σ8 52) < gN_ σ39 52 := Nat.lt_of_lt_of_le hc36 (hx1.2.1 52)
  have hc44 : (gN_ σ19 53) < gN_ σ39 53 := Nat.lt_of_lt_of_le hc37 (hx1.2.1 53)
  have hc45 : gN_ σ32 54 < gN_ σ39 54 := by rw [e40]; exact nA_lt rfl
  rw [show ow_ 54 = 54 from rfl]
  have hl : lv_has ls 1 [(0, .ref (L 50 i0))] := by rw [hx1.at hp38 (by decide)]; exact hl
  refine ww_stk (st1 := [.ref (L 54 (gN_ σ32 54)), .ref (L 50 i0)]) (by rw [hx1.at hp38 (by decide)]) ?_
  have hx0 := hx0.trans hx1
  obtain ⟨hc46, hs⟩ := ww_chk hs
  have hpq : pr σ39 54 (gN_ σ32 54) := (pr_dy hc45 rfl rfl)
  rw [hc46] at hpq
  obtain ⟨σ47, e48, hs⟩ := ww_let hs
  refine ww_markF (d := (2, 54, 0)) hx hb hts hown (hnm.trans rfl) hW 50 i0 3 0 (pr_dy hc41 rfl rfl) (tgd_2 hpq) (obv_0 rfl) rfl (by decide) (Nat.le_of_ble_eq_true rfl) in_X2 tyX2_ok nmX2 rfl (Nat.le_of_ble_eq_true rfl) (hts _ q173) (fun _ h => h) rfl rfl rfl (fun _ => rfl) (fun _ => rfl) (by rw [hc46]; rfl) dX2_init_33 (fun H locs hW => ?_)
  have hW : wv g L σ47 s H locs := by rw [e48]; exact hW
  obtain ⟨hx0, hcs⟩ := lx_s (σ1 := σ47) hx0 hcs (by rw [e48]; exact (kp_M (by decide)))
  have hc49 : i0 < gN_ σ47 50 := by rw [e48]; exact hc41
  have hc50 : (gN_ σ 51) < gN_ σ47 51 := by rw [e48]; exact hc42
  have hc51 : (gN_ σ8 52) < gN_ σ47 52 := by rw [e48]; exact hc43
  have hc52 : (gN_ σ19 53) < gN_ σ47 53 := by rw [e48]; exact hc44
  have hc53 : (gN_ σ32 54) < gN_ σ47 54 := by rw [e48]; exact hc45
  refine lv_aload_n hx hb dX2_init_36 rfl (lv_at hl 0 rfl) ?_
  refine lv_bipush (v := 64) hx hb dX2_init_37 (by decide) ?_
  have hp54 : pr σ47 50 i0 := (pr_dy hc49 rfl rfl)
  obtain ⟨σ55, e56, hs⟩ := ww_let hs
  obtain ⟨hs, hck⟩ := ww_ck1 hs
  have hrm1 := hcs.room (σ1 := σ55) (a := 1) (b := 64) (by rw [e56]; rfl) (by rw [e56]; rfl) hck
  refine ww_newa (atype := .int) hx hb (hts _ q201) hW 55 0 64 (Or.inl rfl) sole_55 (Or.inr hgm) rfl rfl rfl (by decide) rfl (Nat.le_of_ble_eq_true rfl) hrm1.1 hrm1.2 dX2_init_39 (fun H L hx1 hW => ?_)
  rw [← e56] at hx1 hW
  have hcs := hcs.more (σ1 := σ55) (a := 1) (b := 64) (by rw [e56]; rfl) (by rw [e56]; rfl)
  have hrm := hrm1
  have hc57 : i0 < gN_ σ55 50 := Nat.lt_of_lt_of_le hc49 (hx1.2.1 50)
  have hc58 : (gN_ σ 51) < gN_ σ55 51 := Nat.lt_of_lt_of_le hc50 (hx1.2.1 51)
  have hc59 : (gN_ σ8 52) < gN_ σ55 52 := Nat.lt_of_lt_of_le hc51 (hx1.2.1 52)
  have hc60 : (gN_ σ19 53) < gN_ σ55 53 := Nat.lt_of_lt_of_le hc52 (hx1.2.1 53)
  have hc61 : (gN_ σ32 54) < gN_ σ55 54 := Nat.lt_of_lt_of_le hc53 (hx1.2.1 54)
  have hc62 : gN_ σ47 55 < gN_ σ55 55 := by rw [e56]; exact nA_lt rfl
  rw [show ow_ 55 = 55 from rfl]
  have hl : lv_has ls 1 [(0, .ref (L 50 i0))] := by rw [hx1.at hp54 (by decide)]; exact hl
  refine ww_stk (st1 := [.ref (L 55 (gN_ σ47 55)), .ref (L 50 i0)]) (by rw [hx1.at hp54 (by decide)]) ?_
  have hx0 := hx0.trans hx1
  obtain ⟨hc63, hs⟩ := ww_chk hs
  have hpq : pr σ55 55 (gN_ σ47 55) := (pr_dy hc62 rfl rfl)
  rw [hc63] at hpq
  obtain ⟨σ64, e65, hs⟩ := ww_let hs
  refine ww_markF (d := (2, 55, 0)) hx hb hts hown (hnm.trans rfl) hW 50 i0 4 0 (pr_dy hc57 rfl rfl) (tgd_2 hpq) (obv_0 rfl) rfl (by decide) (Nat.le_of_ble_eq_true rfl) in_X2 tyX2_ok nmX2 rfl (Nat.le_of_ble_eq_true rfl) (hts _ q175) (fun _ h => h) rfl rfl rfl (fun _ => rfl) (fun _ => rfl) (by rw [hc63]; rfl) dX2_init_41 (fun H locs hW => ?_)
  have hW : wv g L σ64 s H locs := by rw [e65]; exact hW
  obtain ⟨hx0, hcs⟩ := lx_s (σ1 := σ64) hx0 hcs (by rw [e65]; exact (kp_M (by decide)))
  have hc66 : i0 < gN_ σ64 50 := by rw [e65]; exact hc57
  have hc67 : (gN_ σ 51) < gN_ σ64 51 := by rw [e65]; exact hc58
  have hc68 : (gN_ σ8 52) < gN_ σ64 52 := by rw [e65]; exact hc59
  have hc69 : (gN_ σ19 53) < gN_ σ64 53 := by rw [e65]; exact hc60
  have hc70 : (gN_ σ32 54) < gN_ σ64 54 := by rw [e65]; exact hc61
  have hc71 : (gN_ σ47 55) < gN_ σ64 55 := by rw [e65]; exact hc62
  refine lv_aload_n hx hb dX2_init_44 rfl (lv_at hl 0 rfl) ?_
  refine lv_bipush (v := 64) hx hb dX2_init_45 (by decide) ?_
  have hp72 : pr σ64 50 i0 := (pr_dy hc66 rfl rfl)
  obtain ⟨σ73, e74, hs⟩ := ww_let hs
  obtain ⟨hs, hck⟩ := ww_ck1 hs
  have hrm1 := hcs.room (σ1 := σ73) (a := 1) (b := 64) (by rw [e74]; rfl) (by rw [e74]; rfl) hck
  refine ww_newa (atype := .int) hx hb (hts _ q201) hW 56 0 64 (Or.inl rfl) sole_56 (Or.inr hgm) rfl rfl rfl (by decide) rfl (Nat.le_of_ble_eq_true rfl) hrm1.1 hrm1.2 dX2_init_47 (fun H L hx1 hW => ?_)
  rw [← e74] at hx1 hW
  have hcs := hcs.more (σ1 := σ73) (a := 1) (b := 64) (by rw [e74]; rfl) (by rw [e74]; rfl)
  have hrm := hrm1
  have hc75 : i0 < gN_ σ73 50 := Nat.lt_of_lt_of_le hc66 (hx1.2.1 50)
  have hc76 : (gN_ σ 51) < gN_ σ73 51 := Nat.lt_of_lt_of_le hc67 (hx1.2.1 51)
  have hc77 : (gN_ σ8 52) < gN_ σ73 52 := Nat.lt_of_lt_of_le hc68 (hx1.2.1 52)
  have hc78 : (gN_ σ19 53) < gN_ σ73 53 := Nat.lt_of_lt_of_le hc69 (hx1.2.1 53)
  have hc79 : (gN_ σ32 54) < gN_ σ73 54 := Nat.lt_of_lt_of_le hc70 (hx1.2.1 54)
  have hc80 : (gN_ σ47 55) < gN_ σ73 55 := Nat.lt_of_lt_of_le hc71 (hx1.2.1 55)
  have hc81 : gN_ σ64 56 < gN_ σ73 56 := by rw [e74]; exact nA_lt rfl
  rw [show ow_ 56 = 56 from rfl]
  have hl : lv_has ls 1 [(0, .ref (L 50 i0))] := by rw [hx1.at hp72 (by decide)]; exact hl
  refine ww_stk (st1 := [.ref (L 56 (gN_ σ64 56)), .ref (L 50 i0)]) (by rw [hx1.at hp72 (by decide)]) ?_
  have hx0 := hx0.trans hx1
  obtain ⟨hc82, hs⟩ := ww_chk hs
  have hpq : pr σ73 56 (gN_ σ64 56) := (pr_dy hc81 rfl rfl)
  rw [hc82] at hpq
  obtain ⟨σ83, e84, hs⟩ := ww_let hs
  refine ww_markF (d := (2, 56, 0)) hx hb hts hown (hnm.trans rfl) hW 50 i0 5 0 (pr_dy hc75 rfl rfl) (tgd_2 hpq) (obv_0 rfl) rfl (by decide) (Nat.le_of_ble_eq_true rfl) in_X2 tyX2_ok nmX2 rfl (Nat.le_of_ble_eq_true rfl) (hts _ q177) (fun _ h => h) rfl rfl rfl (fun _ => rfl) (fun _ => rfl) (by rw [hc82]; rfl) dX2_init_49 (fun H locs hW => ?_)
  have hW : wv g L σ83 s H locs := by rw [e84]; exact hW
  obtain ⟨hx0, hcs⟩ := lx_s (σ1 := σ83) hx0 hcs (by rw [e84]; exact (kp_M (by decide)))
  have hc85 : i0 < gN_ σ83 50 := by rw [e84]; exact hc75
  have hc86 : (gN_ σ 51) < gN_ σ83 51 := by rw [e84]; exact hc76
  have hc87 : (gN_ σ8 52) < gN_ σ83 52 := by rw [e84]; exact hc77
  have hc88 : (gN_ σ19 53) < gN_ σ83 53 := by rw [e84]; exact hc78
  have hc89 : (gN_ σ32 54) < gN_ σ83 54 := by rw [e84]; exact hc79
  have hc90 : (gN_ σ47 55) < gN_ σ83 55 := by rw [e84]; exact hc80
  have hc91 : (gN_ σ64 56) < gN_ σ83 56 := by rw [e84]; exact hc81
  refine lv_aload_n hx hb dX2_init_52 rfl (lv_at hl 0 rfl) ?_
  refine lv_bipush (v := 64) hx hb dX2_init_53 (by decide) ?_
  have hp92 : pr σ83 50 i0 := (pr_dy hc85 rfl rfl)
  obtain ⟨σ93, e94, hs⟩ := ww_let hs
  obtain ⟨hs, hck⟩ := ww_ck1 hs
  have hrm1 := hcs.room (σ1 := σ93) (a := 1) (b := 64) (by rw [e94]; rfl) (by rw [e94]; rfl) hck
  refine ww_newa (atype := .int) hx hb (hts _ q201) hW 57 0 64 (Or.inl rfl) sole_57 (Or.inr hgm) rfl rfl rfl (by decide) rfl (Nat.le_of_ble_eq_true rfl) hrm1.1 hrm1.2 dX2_init_55 (fun H L hx1 hW => ?_)
  rw [← e94] at hx1 hW
  have hcs := hcs.more (σ1 := σ93) (a := 1) (b := 64) (by rw [e94]; rfl) (by rw [e94]; rfl)
  have hrm := hrm1
  have hc95 : i0 < gN_ σ93 50 := Nat.lt_of_lt_of_le hc85 (hx1.2.1 50)
  have hc96 : (gN_ σ 51) < gN_ σ93 51 := Nat.lt_of_lt_of_le hc86 (hx1.2.1 51)
  have hc97 : (gN_ σ8 52) < gN_ σ93 52 := Nat.lt_of_lt_of_le hc87 (hx1.2.1 52)
  have hc98 : (gN_ σ19 53) < gN_ σ93 53 := Nat.lt_of_lt_of_le hc88 (hx1.2.1 53)
  have hc99 : (gN_ σ32 54) < gN_ σ93 54 := Nat.lt_of_lt_of_le hc89 (hx1.2.1 54)
  have hc100 : (gN_ σ47 55) < gN_ σ93 55 := Nat.lt_of_lt_of_le hc90 (hx1.2.1 55)
  have hc101 : (gN_ σ64 56) < gN_ σ93 56 := Nat.lt_of_lt_of_le hc91 (hx1.2.1 56)
  have hc102 : gN_ σ83 57 < gN_ σ93 57 := by rw [e94]; exact nA_lt rfl
  rw [show ow_ 57 = 57 from rfl]
  have hl : lv_has ls 1 [(0, .ref (L 50 i0))] := by rw [hx1.at hp92 (by decide)]; exact hl
  refine ww_stk (st1 := [.ref (L 57 (gN_ σ83 57)), .ref (L 50 i0)]) (by rw [hx1.at hp92 (by decide)]) ?_
  have hx0 := hx0.trans hx1
  obtain ⟨hc103, hs⟩ := ww_chk hs
  have hpq : pr σ93 57 (gN_ σ83 57) := (pr_dy hc102 rfl rfl)
  rw [hc103] at hpq
  obtain ⟨σ104, e105, hs⟩ := ww_let hs
  refine ww_markF (d := (2, 57, 0)) hx hb hts hown (hnm.trans rfl) hW 50 i0 6 0 (pr_dy hc95 rfl rfl) (tgd_2 hpq) (obv_0 rfl) rfl (by decide) (Nat.le_of_ble_eq_true rfl) in_X2 tyX2_ok nmX2 rfl (Nat.le_of_ble_eq_true rfl) (hts _ q178) (fun _ h => h) rfl rfl rfl (fun _ => rfl) (fun _ => rfl) (by rw [hc103]; rfl) dX2_init_57 (fun H locs hW => ?_)
  have hW : wv g L σ104 s H locs := by rw [e105]; exact hW
  obtain ⟨hx0, hcs⟩ := lx_s (σ1 := σ104) hx0 hcs (by rw [e105]; exact (kp_M (by decide)))
  have hc106 : i0 < gN_ σ104 50 := by rw [e105]; exact hc95
  have hc107 : (gN_ σ 51) < gN_ σ104 51 := by rw [e105]; exact hc96
  have hc108 : (gN_ σ8 52) < gN_ σ104 52 := by rw [e105]; exact hc97
  have hc109 : (gN_ σ19 53) < gN_ σ104 53 := by rw [e105]; exact hc98
  have hc110 : (gN_ σ32 54) < gN_ σ104 54 := by rw [e105]; exact hc99
  have hc111 : (gN_ σ47 55) < gN_ σ104 55 := by rw [e105]; exact hc100
  have hc112 : (gN_ σ64 56) < gN_ σ104 56 := by rw [e105]; exact hc101
  have hc113 : (gN_ σ83 57) < gN_ σ104 57 := by rw [e105]; exact hc102
  refine lv_aload_n hx hb dX2_init_60 rfl (lv_at hl 0 rfl) ?_
  refine lv_bipush (v := 64) hx hb dX2_init_61 (by decide) ?_
  have hp114 : pr σ104 50 i0 := (pr_dy hc106 rfl rfl)
  obtain ⟨σ115, e116, hs⟩ := ww_let hs
  obtain ⟨hs, hck⟩ := ww_ck1 hs
  have hrm1 := hcs.room (σ1 := σ115) (a := 1) (b := 64) (by rw [e116]; rfl) (by rw [e116]; rfl) hck
  refine ww_newa (atype := .int) hx hb (hts _ q201) hW 58 0 64 (Or.inl rfl) sole_58 (Or.inr hgm) rfl rfl rfl (by decide) rfl (Nat.le_of_ble_eq_true rfl) hrm1.1 hrm1.2 dX2_init_63 (fun H L hx1 hW => ?_)
  rw [← e116] at hx1 hW
  have hcs := hcs.more (σ1 := σ115) (a := 1) (b := 64) (by rw [e116]; rfl) (by rw [e116]; rfl)
  have hrm := hrm1
  have hc117 : i0 < gN_ σ115 50 := Nat.lt_of_lt_of_le hc106 (hx1.2.1 50)
  have hc118 : (gN_ σ 51) < gN_ σ115 51 := Nat.lt_of_lt_of_le hc107 (hx1.2.1 51)
  have hc119 : (gN_ σ8 52) < gN_ σ115 52 := Nat.lt_of_lt_of_le hc108 (hx1.2.1 52)
  have hc120 : (gN_ σ19 53) < gN_ σ115 53 := Nat.lt_of_lt_of_le hc109 (hx1.2.1 53)
  have hc121 : (gN_ σ32 54) < gN_ σ115 54 := Nat.lt_of_lt_of_le hc110 (hx1.2.1 54)
  have hc122 : (gN_ σ47 55) < gN_ σ115 55 := Nat.lt_of_lt_of_le hc111 (hx1.2.1 55)
  have hc123 : (gN_ σ64 56) < gN_ σ115 56 := Nat.lt_of_lt_of_le hc112 (hx1.2.1 56)
  have hc124 : (gN_ σ83 57) < gN_ σ115 57 := Nat.lt_of_lt_of_le hc113 (hx1.2.1 57)
  have hc125 : gN_ σ104 58 < gN_ σ115 58 := by rw [e116]; exact nA_lt rfl
  rw [show ow_ 58 = 58 from rfl]
  have hl : lv_has ls 1 [(0, .ref (L 50 i0))] := by rw [hx1.at hp114 (by decide)]; exact hl
  refine ww_stk (st1 := [.ref (L 58 (gN_ σ104 58)), .ref (L 50 i0)]) (by rw [hx1.at hp114 (by decide)]) ?_
  have hx0 := hx0.trans hx1
  obtain ⟨hc126, hs⟩ := ww_chk hs
  have hpq : pr σ115 58 (gN_ σ104 58) := (pr_dy hc125 rfl rfl)
  rw [hc126] at hpq
  obtain ⟨σ127, e128, hs⟩ := ww_let hs
  refine ww_markF (d := (2, 58, 0)) hx hb hts hown (hnm.trans rfl) hW 50 i0 7 0 (pr_dy hc117 rfl rfl) (tgd_2 hpq) (obv_0 rfl) rfl (by decide) (Nat.le_of_ble_eq_true rfl) in_X2 tyX2_ok nmX2 rfl (Nat.le_of_ble_eq_true rfl) (hts _ q179) (fun _ h => h) rfl rfl rfl (fun _ => rfl) (fun _ => rfl) (by rw [hc126]; rfl) dX2_init_65 (fun H locs hW => ?_)
  have hW : wv g L σ127 s H locs := by rw [e128]; exact hW
  obtain ⟨hx0, hcs⟩ := lx_s (σ1 := σ127) hx0 hcs (by rw [e128]; exact (kp_M (by decide)))
  have hc129 : i0 < gN_ σ127 50 := by rw [e128]; exact hc117
  have hc130 : (gN_ σ 51) < gN_ σ127 51 := by rw [e128]; exact hc118
  have hc131 : (gN_ σ8 52) < gN_ σ127 52 := by rw [e128]; exact hc119
  have hc132 : (gN_ σ19 53) < gN_ σ127 53 := by rw [e128]; exact hc120
  have hc133 : (gN_ σ32 54) < gN_ σ127 54 := by rw [e128]; exact hc121
  have hc134 : (gN_ σ47 55) < gN_ σ127 55 := by rw [e128]; exact hc122
  have hc135 : (gN_ σ64 56) < gN_ σ127 56 := by rw [e128]; exact hc123
  have hc136 : (gN_ σ83 57) < gN_ σ127 57 := by rw [e128]; exact hc124
  have hc137 : (gN_ σ104 58) < gN_ σ127 58 := by rw [e128]; exact hc125
  refine lv_aload_n hx hb dX2_init_68 rfl (lv_at hl 0 rfl) ?_
  refine lv_bipush (v := 64) hx hb dX2_init_69 (by decide) ?_
  have hl : lv_has ls 1 [] := lv_sub hl [] rfl
  have hp138 : pr σ127 50 i0 := (pr_dy hc129 rfl rfl)
  obtain ⟨σ139, e140, hs⟩ := ww_let hs
  obtain ⟨hs, hck⟩ := ww_ck1 hs
  have hrm1 := hcs.room (σ1 := σ139) (a := 1) (b := 64) (by rw [e140]; rfl) (by rw [e140]; rfl) hck
  refine ww_newa (atype := .int) hx hb (hts _ q201) hW 59 0 64 (Or.inl rfl) sole_59 (Or.inr hgm) rfl rfl rfl (by decide) rfl (Nat.le_of_ble_eq_true rfl) hrm1.1 hrm1.2 dX2_init_71 (fun H L hx1 hW => ?_)
  rw [← e140] at hx1 hW
  have hcs := hcs.more (σ1 := σ139) (a := 1) (b := 64) (by rw [e140]; rfl) (by rw [e140]; rfl)
  have hrm := hrm1
  have hc141 : i0 < gN_ σ139 50 := Nat.lt_of_lt_of_le hc129 (hx1.2.1 50)
  have hc142 : (gN_ σ 51) < gN_ σ139 51 := Nat.lt_of_lt_of_le hc130 (hx1.2.1 51)
  have hc143 : (gN_ σ8 52) < gN_ σ139 52 := Nat.lt_of_lt_of_le hc131 (hx1.2.1 52)
  have hc144 : (gN_ σ19 53) < gN_ σ139 53 := Nat.lt_of_lt_of_le hc132 (hx1.2.1 53)
  have hc145 : (gN_ σ32 54) < gN_ σ139 54 := Nat.lt_of_lt_of_le hc133 (hx1.2.1 54)
  have hc146 : (gN_ σ47 55) < gN_ σ139 55 := Nat.lt_of_lt_of_le hc134 (hx1.2.1 55)
  have hc147 : (gN_ σ64 56) < gN_ σ139 56 := Nat.lt_of_lt_of_le hc135 (hx1.2.1 56)
  have hc148 : (gN_ σ83 57) < gN_ σ139 57 := Nat.lt_of_lt_of_le hc136 (hx1.2.1 57)
  have hc149 : (gN_ σ104 58) < gN_ σ139 58 := Nat.lt_of_lt_of_le hc137 (hx1.2.1 58)
  have hc150 : gN_ σ127 59 < gN_ σ139 59 := by rw [e140]; exact nA_lt rfl
  rw [show ow_ 59 = 59 from rfl]
  refine ww_stk (st1 := [.ref (L 59 (gN_ σ127 59)), .ref (L 50 i0)]) (by rw [hx1.at hp138 (by decide)]) ?_
  have hx0 := hx0.trans hx1
  obtain ⟨hc151, hs⟩ := ww_chk hs
  have hpq : pr σ139 59 (gN_ σ127 59) := (pr_dy hc150 rfl rfl)
  rw [hc151] at hpq
  obtain ⟨σ152, e153, hs⟩ := ww_let hs
  refine ww_markF (d := (2, 59, 0)) hx hb hts hown (hnm.trans rfl) hW 50 i0 8 0 (pr_dy hc141 rfl rfl) (tgd_2 hpq) (obv_0 rfl) rfl (by decide) (Nat.le_of_ble_eq_true rfl) in_X2 tyX2_ok nmX2 rfl (Nat.le_of_ble_eq_true rfl) (hts _ q180) (fun _ h => h) rfl rfl rfl (fun _ => rfl) (fun _ => rfl) (by rw [hc151]; rfl) dX2_init_73 (fun H locs hW => ?_)
  have hW : wv g L σ152 s H locs := by rw [e153]; exact hW
  obtain ⟨hx0, hcs⟩ := lx_s (σ1 := σ152) hx0 hcs (by rw [e153]; exact (kp_M (by decide)))
  have hc154 : i0 < gN_ σ152 50 := by rw [e153]; exact hc141
  have hc155 : (gN_ σ 51) < gN_ σ152 51 := by rw [e153]; exact hc142
  have hc156 : (gN_ σ8 52) < gN_ σ152 52 := by rw [e153]; exact hc143
  have hc157 : (gN_ σ19 53) < gN_ σ152 53 := by rw [e153]; exact hc144
  have hc158 : (gN_ σ32 54) < gN_ σ152 54 := by rw [e153]; exact hc145
  have hc159 : (gN_ σ47 55) < gN_ σ152 55 := by rw [e153]; exact hc146
  have hc160 : (gN_ σ64 56) < gN_ σ152 56 := by rw [e153]; exact hc147
  have hc161 : (gN_ σ83 57) < gN_ σ152 57 := by rw [e153]; exact hc148
  have hc162 : (gN_ σ104 58) < gN_ σ152 58 := by rw [e153]; exact hc149
  have hc163 : (gN_ σ127 59) < gN_ σ152 59 := by rw [e153]; exact hc150
  have hs := ww_S hs
  exact wa_v hx hb hr hlocks hx0 hcs hW hs dX2_init_76
set_option maxHeartbeats 4000000 in
theorem c_X20_init (g : wg_T) (hgm : gm g = false) (l : Launch) (L : ly_T) (σ : st_T) (i0 : Nat) (a1 : Int32) (a2 : Int32) (a3 : Int32) (σ_ : st_T) (hs : m_X20_init σ i0 a1 a2 a3 = some σ_) : CV g l yX20_init (ws_ yX20_init cX20_init 4 none) 2 60 0 0 [.ref (L 85 i0), .int a1, .int a2, .int a3] L σ σ_ := by
  refine wbody.met (by decide) (Nat.le_of_ble_eq_true rfl) ?_
  intro p e s m args below meth c ls hx hb hr hml hlocks hts hown hnm hW hl
  have hown : s.vm.findClass RX20 = some m.cls := hown
  have hl : lv_has ls 4 [(0, .ref (L 85 i0)), (1, .int a1), (2, .int a2), (3, .int a3)] := hl
  unfold m_X20_init at hs
  refine lv_aload_n hx hb dX20_init_0 rfl (lv_at hl 0 rfl) ?_
  refine W.objInit hx hb hown (hts _ q1540) (hts _ q159) (hts _ q160) rfl (hl.1.trans hml.symm) rfl dX20_init_1 (Nat.le_of_ble_eq_true rfl) (Nat.le_of_ble_eq_true rfl) ?_
  refine lv_aload_n hx hb dX20_init_4 rfl (lv_at hl 0 rfl) ?_
  refine lv_iload_n hx hb dX20_init_5 rfl (lv_at hl 1 rfl) ?_
  obtain ⟨hc1, hs⟩ := ww_chk hs
  obtain ⟨σ2, e3, hs⟩ := ww_let hs
  refine ww_putF hx hb hts hown (hnm.trans rfl) hW 85 i0 0 (pr_dy hc1 rfl rfl) (obv_0 rfl) rfl in_X20 tyX20_ok nmX20 rfl (Nat.le_of_ble_eq_true rfl) (hts _ q1541) (fun _ h => h) rfl rfl rfl rfl rfl dX20_init_6 (fun H locs hW => ?_)
  have hW : wv g L σ2 s H locs := by rw [e3]; exact hW
  have hc4 : i0 < gN_ σ2 85 := by rw [e3]; exact hc1
  refine lv_aload_n hx hb dX20_init_9 rfl (lv_at hl 0 rfl) ?_
  refine lv_iload_n hx hb dX20_init_10 rfl (lv_at hl 2 rfl) ?_
  obtain ⟨σ5, e6, hs⟩ := ww_let hs
  refine ww_putF hx hb hts hown (hnm.trans rfl) hW 85 i0 1 (pr_dy hc4 rfl rfl) (obv_0 rfl) rfl in_X20 tyX20_ok nmX20 rfl (Nat.le_of_ble_eq_true rfl) (hts _ q1543) (fun _ h => h) rfl rfl rfl rfl rfl dX20_init_11 (fun H locs hW => ?_)
  have hW : wv g L σ5 s H locs := by rw [e6]; exact hW
  have hc7 : i0 < gN_ σ5 85 := by rw [e6]; exact hc4
  refine lv_aload_n hx hb dX20_init_14 rfl (lv_at hl 0 rfl) ?_
  refine lv_iload_n hx hb dX20_init_15 rfl (lv_at hl 3 rfl) ?_
  obtain ⟨σ8, e9, hs⟩ := ww_let hs
  refine ww_putF hx hb hts hown (hnm.trans rfl) hW 85 i0 2 (pr_dy hc7 rfl rfl) (obv_0 rfl) rfl in_X20 tyX20_ok nmX20 rfl (Nat.le_of_ble_eq_true rfl) (hts _ q1545) (fun _ h => h) rfl rfl rfl rfl rfl dX20_init_16 (fun H locs hW => ?_)
  have hW : wv g L σ8 s H locs := by rw [e9]; exact hW
  have hc10 : i0 < gN_ σ8 85 := by rw [e9]; exact hc7
  have hs := ww_S hs
  exact we_v hx hb hr hlocks hW hs (Nat.le_of_ble_eq_true rfl) (Nat.le_of_ble_eq_true rfl) dX20_init_19
set_option maxHeartbeats 4000000 in
theorem c_X21_init (g : wg_T) (hgm : gm g = false) (l : Launch) (L : ly_T) (σ : st_T) (i0 : Nat) (i1 : Nat) (a2 : Int32) (σ_ : st_T) (hs : m_X21_init σ i0 i1 a2 = some σ_) : CV g l yX21_init (ws_ yX21_init cX21_init 3 none) 2 60 0 0 [.ref (L 86 i0), .ref (L 85 i1), .int a2] L σ σ_ := by
  refine wbody.met (by decide) (Nat.le_of_ble_eq_true rfl) ?_
  intro p e s m args below meth c ls hx hb hr hml hlocks hts hown hnm hW hl
  have hown : s.vm.findClass RX21 = some m.cls := hown
  have hl : lv_has ls 3 [(0, .ref (L 86 i0)), (1, .ref (L 85 i1)), (2, .int a2)] := hl
  unfold m_X21_init at hs
  refine lv_aload_n hx hb dX21_init_0 rfl (lv_at hl 0 rfl) ?_
  refine W.objInit hx hb hown (hts _ q1581) (hts _ q159) (hts _ q160) rfl (hl.1.trans hml.symm) rfl dX21_init_1 (Nat.le_of_ble_eq_true rfl) (Nat.le_of_ble_eq_true rfl) ?_
  refine lv_aload_n hx hb dX21_init_4 rfl (lv_at hl 0 rfl) ?_
  refine lv_aload_n hx hb dX21_init_5 rfl (lv_at hl 1 rfl) ?_
  obtain ⟨hc1, hs⟩ := ww_chk hs
  obtain ⟨hc2, hs⟩ := ww_chk hs
  obtain ⟨σ3, e4, hs⟩ := ww_let hs
  refine ww_markF (d := (3, 85, 0)) hx hb hts hown (hnm.trans rfl) hW 86 i0 0 i1 (pr_dy hc1 rfl rfl) (tgd_3 (pr_dy hc2 rfl rfl)) (obv_0 rfl) rfl (by decide) (Nat.le_of_ble_eq_true rfl) in_X21 tyX21_ok nmX21 rfl (Nat.le_of_ble_eq_true rfl) (hts _ q1582) (fun _ h => h) rfl rfl rfl (fun _ => rfl) (fun _ => rfl) (congrArg Value.ref fp_M3.symm) dX21_init_6 (fun H locs hW => ?_)
  have hW : wv g L σ3 s H locs := by rw [e4]; exact hW
  have hc5 : i0 < gN_ σ3 86 := by rw [e4]; exact hc1
  have hc6 : i1 < gN_ σ3 85 := by rw [e4]; exact hc2
  refine lv_aload_n hx hb dX21_init_9 rfl (lv_at hl 0 rfl) ?_
  refine lv_iload_n hx hb dX21_init_10 rfl (lv_at hl 2 rfl) ?_
  obtain ⟨σ7, e8, hs⟩ := ww_let hs
  refine ww_putF hx hb hts hown (hnm.trans rfl) hW 86 i0 1 (pr_dy hc5 rfl rfl) (obv_0 rfl) rfl in_X21 tyX21_ok nmX21 rfl (Nat.le_of_ble_eq_true rfl) (hts _ q1584) (fun _ h => h) rfl rfl rfl rfl rfl dX21_init_11 (fun H locs hW => ?_)
  have hW : wv g L σ7 s H locs := by rw [e8]; exact hW
  have hc9 : i0 < gN_ σ7 86 := by rw [e8]; exact hc5
  have hc10 : i1 < gN_ σ7 85 := by rw [e8]; exact hc6
  have hs := ww_S hs
  exact we_v hx hb hr hlocks hW hs (Nat.le_of_ble_eq_true rfl) (Nat.le_of_ble_eq_true rfl) dX21_init_14
set_option maxHeartbeats 4000000 in
theorem c_X3_init (g : wg_T) (hgm : gm g = false) (l : Launch) (L : ly_T) (σ : st_T) (i0 : Nat) (σ_ : st_T) (hs : m_X3_init σ i0 = some σ_) : AV g l yX3_init (ws_ yX3_init cX3_init 1 none) 2 60 [.ref (L 60 i0)] L σ  σ_ := by
  refine wbody.met (by decide) (Nat.le_of_ble_eq_true rfl) ?_
  intro p e s m args below meth c ls hx hb hr hml hlocks hts hown hnm hW hl
  have hown : s.vm.findClass RX3 = some m.cls := hown
  obtain ⟨L0, hL0⟩ : ∃ L0, L0 = L := ⟨_, rfl⟩
  obtain ⟨σ0, hσ0⟩ : ∃ σ0, σ0 = σ := ⟨_, rfl⟩
  rw [← hσ0, ← hL0]
  have hx0 : lext L0 σ0 L σ := by rw [hL0, hσ0]; exact lext.refl
  have hcs : bk σ0 σ 0 0 := bk.start hσ0
  have hrm : 0 ≤ cu_ σ_ - cu_ σ0 ∧ 0 ≤ su_ σ_ - su_ σ0 := ⟨Nat.zero_le _, Nat.zero_le _⟩
  have hl : lv_has ls 1 [(0, .ref (L 60 i0))] := hl
  unfold m_X3_init at hs
  refine lv_aload_n hx hb dX3_init_0 rfl (lv_at hl 0 rfl) ?_
  refine W.objInit hx hb hown (hts _ q207) (hts _ q159) (hts _ q160) rfl (hl.1.trans hml.symm) rfl dX3_init_1 (Nat.le_of_ble_eq_true rfl) (Nat.le_of_ble_eq_true rfl) ?_
  refine lv_aload_n hx hb dX3_init_4 rfl (lv_at hl 0 rfl) ?_
  refine lv_bipush (v := 64) hx hb dX3_init_5 (by decide) ?_
  obtain ⟨hc1, hs⟩ := ww_chk hs
  have hp2 : pr σ 60 i0 := (pr_dy hc1 rfl rfl)
  obtain ⟨σ3, e4, hs⟩ := ww_let hs
  obtain ⟨hs, hck⟩ := ww_ck1 hs
  have hrm1 := hcs.room (σ1 := σ3) (a := 1) (b := 64) (by rw [e4]; rfl) (by rw [e4]; rfl) hck
  refine ww_newa (atype := .int) hx hb (hts _ q201) hW 61 0 64 (Or.inl rfl) sole_61 (Or.inr hgm) rfl rfl rfl (by decide) rfl (Nat.le_of_ble_eq_true rfl) hrm1.1 hrm1.2 dX3_init_7 (fun H L hx1 hW => ?_)
  rw [← e4] at hx1 hW
  have hcs := hcs.more (σ1 := σ3) (a := 1) (b := 64) (by rw [e4]; rfl) (by rw [e4]; rfl)
  have hrm := hrm1
  have hc5 : i0 < gN_ σ3 60 := Nat.lt_of_lt_of_le hc1 (hx1.2.1 60)
  have hc6 : gN_ σ 61 < gN_ σ3 61 := by rw [e4]; exact nA_lt rfl
  rw [show ow_ 61 = 61 from rfl]
  have hl : lv_has ls 1 [(0, .ref (L 60 i0))] := by rw [hx1.at hp2 (by decide)]; exact hl
  refine ww_stk (st1 := [.ref (L 61 (gN_ σ 61)), .ref (L 60 i0)]) (by rw [hx1.at hp2 (by decide)]) ?_
  have hx0 := hx0.trans hx1
  obtain ⟨hc7, hs⟩ := ww_chk hs
  have hpq : pr σ3 61 (gN_ σ 61) := (pr_dy hc6 rfl rfl)
  rw [hc7] at hpq
  obtain ⟨σ8, e9, hs⟩ := ww_let hs
  refine ww_markF (d := (1, 61, 0)) hx hb hts hown (hnm.trans rfl) hW 60 i0 0 0 (pr_dy hc5 rfl rfl) (tgd_1 hpq) (obv_0 rfl) rfl (by decide) (Nat.le_of_ble_eq_true rfl) in_X3 tyX3_ok nmX3 rfl (Nat.le_of_ble_eq_true rfl) (hts _ q208) (fun _ h => h) rfl rfl rfl (fun _ => rfl) (fun _ => rfl) (by rw [hc7]; rfl) dX3_init_9 (fun H locs hW => ?_)
  have hW : wv g L σ8 s H locs := by rw [e9]; exact hW
  obtain ⟨hx0, hcs⟩ := lx_s (σ1 := σ8) hx0 hcs (by rw [e9]; exact (kp_M (by decide)))
  have hc10 : i0 < gN_ σ8 60 := by rw [e9]; exact hc5
  have hc11 : (gN_ σ 61) < gN_ σ8 61 := by rw [e9]; exact hc6
  refine lv_aload_n hx hb dX3_init_12 rfl (lv_at hl 0 rfl) ?_
  refine lv_bipush (v := 64) hx hb dX3_init_13 (by decide) ?_
  have hp12 : pr σ8 60 i0 := (pr_dy hc10 rfl rfl)
  obtain ⟨σ13, e14, hs⟩ := ww_let hs
  obtain ⟨hs, hck⟩ := ww_ck1 hs
  have hrm1 := hcs.room (σ1 := σ13) (a := 1) (b := 64) (by rw [e14]; rfl) (by rw [e14]; rfl) hck
  refine ww_newa (atype := .int) hx hb (hts _ q201) hW 62 0 64 (Or.inl rfl) sole_62 (Or.inr hgm) rfl rfl rfl (by decide) rfl (Nat.le_of_ble_eq_true rfl) hrm1.1 hrm1.2 dX3_init_15 (fun H L hx1 hW => ?_)
  rw [← e14] at hx1 hW
  have hcs := hcs.more (σ1 := σ13) (a := 1) (b := 64) (by rw [e14]; rfl) (by rw [e14]; rfl)
  have hrm := hrm1
  have hc15 : i0 < gN_ σ13 60 := Nat.lt_of_lt_of_le hc10 (hx1.2.1 60)
  have hc16 : (gN_ σ 61) < gN_ σ13 61 := Nat.lt_of_lt_of_le hc11 (hx1.2.1 61)
  have hc17 : gN_ σ8 62 < gN_ σ13 62 := by rw [e14]; exact nA_lt rfl
  rw [show ow_ 62 = 62 from rfl]
  have hl : lv_has ls 1 [(0, .ref (L 60 i0))] := by rw [hx1.at hp12 (by decide)]; exact hl
  refine ww_stk (st1 := [.ref (L 62 (gN_ σ8 62)), .ref (L 60 i0)]) (by rw [hx1.at hp12 (by decide)]) ?_
  have hx0 := hx0.trans hx1
  obtain ⟨hc18, hs⟩ := ww_chk hs
  have hpq : pr σ13 62 (gN_ σ8 62) := (pr_dy hc17 rfl rfl)
  rw [hc18] at hpq
  obtain ⟨σ19, e20, hs⟩ := ww_let hs
  refine ww_markF (d := (1, 62, 0)) hx hb hts hown (hnm.trans rfl) hW 60 i0 1 0 (pr_dy hc15 rfl rfl) (tgd_1 hpq) (obv_0 rfl) rfl (by decide) (Nat.le_of_ble_eq_true rfl) in_X3 tyX3_ok nmX3 rfl (Nat.le_of_ble_eq_true rfl) (hts _ q210) (fun _ h => h) rfl rfl rfl (fun _ => rfl) (fun _ => rfl) (by rw [hc18]; rfl) dX3_init_17 (fun H locs hW => ?_)
  have hW : wv g L σ19 s H locs := by rw [e20]; exact hW
  obtain ⟨hx0, hcs⟩ := lx_s (σ1 := σ19) hx0 hcs (by rw [e20]; exact (kp_M (by decide)))
  have hc21 : i0 < gN_ σ19 60 := by rw [e20]; exact hc15
  have hc22 : (gN_ σ 61) < gN_ σ19 61 := by rw [e20]; exact hc16
  have hc23 : (gN_ σ8 62) < gN_ σ19 62 := by rw [e20]; exact hc17
  refine lv_aload_n hx hb dX3_init_20 rfl (lv_at hl 0 rfl) ?_
  refine lv_bipush (v := 64) hx hb dX3_init_21 (by decide) ?_
  have hl : lv_has ls 1 [] := lv_sub hl [] rfl
  have hp24 : pr σ19 60 i0 := (pr_dy hc21 rfl rfl)
  obtain ⟨σ25, e26, hs⟩ := ww_let hs
  obtain ⟨hs, hck⟩ := ww_ck1 hs
  have hrm1 := hcs.room (σ1 := σ25) (a := 1) (b := 64) (by rw [e26]; rfl) (by rw [e26]; rfl) hck
  refine ww_newa (atype := .boolean) hx hb (hts _ q224) hW 63 2 64 (Or.inl rfl) sole_63 (Or.inr hgm) rfl rfl rfl (by decide) rfl (Nat.le_of_ble_eq_true rfl) hrm1.1 hrm1.2 dX3_init_23 (fun H L hx1 hW => ?_)
  rw [← e26] at hx1 hW
  have hcs := hcs.more (σ1 := σ25) (a := 1) (b := 64) (by rw [e26]; rfl) (by rw [e26]; rfl)
  have hrm := hrm1
  have hc27 : i0 < gN_ σ25 60 := Nat.lt_of_lt_of_le hc21 (hx1.2.1 60)
  have hc28 : (gN_ σ 61) < gN_ σ25 61 := Nat.lt_of_lt_of_le hc22 (hx1.2.1 61)
  have hc29 : (gN_ σ8 62) < gN_ σ25 62 := Nat.lt_of_lt_of_le hc23 (hx1.2.1 62)
  have hc30 : gN_ σ19 63 < gN_ σ25 63 := by rw [e26]; exact nA_lt rfl
  rw [show ow_ 63 = 63 from rfl]
  refine ww_stk (st1 := [.ref (L 63 (gN_ σ19 63)), .ref (L 60 i0)]) (by rw [hx1.at hp24 (by decide)]) ?_
  have hx0 := hx0.trans hx1
  obtain ⟨hc31, hs⟩ := ww_chk hs
  have hpq : pr σ25 63 (gN_ σ19 63) := (pr_dy hc30 rfl rfl)
  rw [hc31] at hpq
  obtain ⟨σ32, e33, hs⟩ := ww_let hs
  refine ww_markF (d := (1, 63, 0)) hx hb hts hown (hnm.trans rfl) hW 60 i0 2 0 (pr_dy hc27 rfl rfl) (tgd_1 hpq) (obv_0 rfl) rfl (by decide) (Nat.le_of_ble_eq_true rfl) in_X3 tyX3_ok nmX3 rfl (Nat.le_of_ble_eq_true rfl) (hts _ q212) (fun _ h => h) rfl rfl rfl (fun _ => rfl) (fun _ => rfl) (by rw [hc31]; rfl) dX3_init_25 (fun H locs hW => ?_)
  have hW : wv g L σ32 s H locs := by rw [e33]; exact hW
  obtain ⟨hx0, hcs⟩ := lx_s (σ1 := σ32) hx0 hcs (by rw [e33]; exact (kp_M (by decide)))
  have hc34 : i0 < gN_ σ32 60 := by rw [e33]; exact hc27
  have hc35 : (gN_ σ 61) < gN_ σ32 61 := by rw [e33]; exact hc28
  have hc36 : (gN_ σ8 62) < gN_ σ32 62 := by rw [e33]; exact hc29
  have hc37 : (gN_ σ19 63) < gN_ σ32 63 := by rw [e33]; exact hc30
  have hs := ww_S hs
  exact wa_v hx hb hr hlocks hx0 hcs hW hs dX3_init_28
set_option maxHeartbeats 4000000 in
theorem c_X4_init (g : wg_T) (hgm : gm g = false) (l : Launch) (L : ly_T) (σ : st_T) (i0 : Nat) (σ_ : st_T) (hs : m_X4_init σ i0 = some σ_) : AV g l yX4_init (ws_ yX4_init cX4_init 1 none) 2 60 [.ref (L 65 i0)] L σ  σ_ := by
  refine wbody.met (by decide) (Nat.le_of_ble_eq_true rfl) ?_
  intro p e s m args below meth c ls hx hb hr hml hlocks hts hown hnm hW hl
  have hown : s.vm.findClass RX4 = some m.cls := hown
  obtain ⟨L0, hL0⟩ : ∃ L0, L0 = L := ⟨_, rfl⟩
  obtain ⟨σ0, hσ0⟩ : ∃ σ0, σ0 = σ := ⟨_, rfl⟩
  rw [← hσ0, ← hL0]
  have hx0 : lext L0 σ0 L σ := by rw [hL0, hσ0]; exact lext.refl
  have hcs : bk σ0 σ 0 0 := bk.start hσ0
  have hrm : 0 ≤ cu_ σ_ - cu_ σ0 ∧ 0 ≤ su_ σ_ - su_ σ0 := ⟨Nat.zero_le _, Nat.zero_le _⟩
  have hl : lv_has ls 1 [(0, .ref (L 65 i0))] := hl
  unfold m_X4_init at hs
  refine lv_aload_n hx hb dX4_init_0 rfl (lv_at hl 0 rfl) ?_
  refine W.objInit hx hb hown (hts _ q230) (hts _ q159) (hts _ q160) rfl (hl.1.trans hml.symm) rfl dX4_init_1 (Nat.le_of_ble_eq_true rfl) (Nat.le_of_ble_eq_true rfl) ?_
  refine lv_aload_n hx hb dX4_init_4 rfl (lv_at hl 0 rfl) ?_
  refine lv_bipush (v := 64) hx hb dX4_init_5 (by decide) ?_
  obtain ⟨hc1, hs⟩ := ww_chk hs
  have hp2 : pr σ 65 i0 := (pr_dy hc1 rfl rfl)
  obtain ⟨σ3, e4, hs⟩ := ww_let hs
  obtain ⟨hs, hck⟩ := ww_ck1 hs
  have hrm1 := hcs.room (σ1 := σ3) (a := 1) (b := 64) (by rw [e4]; rfl) (by rw [e4]; rfl) hck
  refine ww_newa (atype := .int) hx hb (hts _ q201) hW 66 0 64 (Or.inl rfl) sole_66 (Or.inr hgm) rfl rfl rfl (by decide) rfl (Nat.le_of_ble_eq_true rfl) hrm1.1 hrm1.2 dX4_init_7 (fun H L hx1 hW => ?_)
  rw [← e4] at hx1 hW
  have hcs := hcs.more (σ1 := σ3) (a := 1) (b := 64) (by rw [e4]; rfl) (by rw [e4]; rfl)
  have hrm := hrm1
  have hc5 : i0 < gN_ σ3 65 := Nat.lt_of_lt_of_le hc1 (hx1.2.1 65)
  have hc6 : gN_ σ 66 < gN_ σ3 66 := by rw [e4]; exact nA_lt rfl
  rw [show ow_ 66 = 66 from rfl]
  have hl : lv_has ls 1 [(0, .ref (L 65 i0))] := by rw [hx1.at hp2 (by decide)]; exact hl
  refine ww_stk (st1 := [.ref (L 66 (gN_ σ 66)), .ref (L 65 i0)]) (by rw [hx1.at hp2 (by decide)]) ?_
  have hx0 := hx0.trans hx1
  obtain ⟨hc7, hs⟩ := ww_chk hs
  have hpq : pr σ3 66 (gN_ σ 66) := (pr_dy hc6 rfl rfl)
  rw [hc7] at hpq
  obtain ⟨σ8, e9, hs⟩ := ww_let hs
  refine ww_markF (d := (1, 66, 0)) hx hb hts hown (hnm.trans rfl) hW 65 i0 0 0 (pr_dy hc5 rfl rfl) (tgd_1 hpq) (obv_0 rfl) rfl (by decide) (Nat.le_of_ble_eq_true rfl) in_X4 tyX4_ok nmX4 rfl (Nat.le_of_ble_eq_true rfl) (hts _ q231) (fun _ h => h) rfl rfl rfl (fun _ => rfl) (fun _ => rfl) (by rw [hc7]; rfl) dX4_init_9 (fun H locs hW => ?_)
  have hW : wv g L σ8 s H locs := by rw [e9]; exact hW
  obtain ⟨hx0, hcs⟩ := lx_s (σ1 := σ8) hx0 hcs (by rw [e9]; exact (kp_M (by decide)))
  have hc10 : i0 < gN_ σ8 65 := by rw [e9]; exact hc5
  have hc11 : (gN_ σ 66) < gN_ σ8 66 := by rw [e9]; exact hc6
  refine lv_aload_n hx hb dX4_init_12 rfl (lv_at hl 0 rfl) ?_
  refine lv_bipush (v := 64) hx hb dX4_init_13 (by decide) ?_
  have hl : lv_has ls 1 [] := lv_sub hl [] rfl
  have hp12 : pr σ8 65 i0 := (pr_dy hc10 rfl rfl)
  obtain ⟨σ13, e14, hs⟩ := ww_let hs
  obtain ⟨hs, hck⟩ := ww_ck1 hs
  have hrm1 := hcs.room (σ1 := σ13) (a := 1) (b := 64) (by rw [e14]; rfl) (by rw [e14]; rfl) hck
  refine ww_newa (atype := .int) hx hb (hts _ q201) hW 67 0 64 (Or.inl rfl) sole_67 (Or.inr hgm) rfl rfl rfl (by decide) rfl (Nat.le_of_ble_eq_true rfl) hrm1.1 hrm1.2 dX4_init_15 (fun H L hx1 hW => ?_)
  rw [← e14] at hx1 hW
  have hcs := hcs.more (σ1 := σ13) (a := 1) (b := 64) (by rw [e14]; rfl) (by rw [e14]; rfl)
  have hrm := hrm1
  have hc15 : i0 < gN_ σ13 65 := Nat.lt_of_lt_of_le hc10 (hx1.2.1 65)
  have hc16 : (gN_ σ 66) < gN_ σ13 66 := Nat.lt_of_lt_of_le hc11 (hx1.2.1 66)
  have hc17 : gN_ σ8 67 < gN_ σ13 67 := by rw [e14]; exact nA_lt rfl
  rw [show ow_ 67 = 67 from rfl]
  refine ww_stk (st1 := [.ref (L 67 (gN_ σ8 67)), .ref (L 65 i0)]) (by rw [hx1.at hp12 (by decide)]) ?_
  have hx0 := hx0.trans hx1
  obtain ⟨hc18, hs⟩ := ww_chk hs
  have hpq : pr σ13 67 (gN_ σ8 67) := (pr_dy hc17 rfl rfl)
  rw [hc18] at hpq
  obtain ⟨σ19, e20, hs⟩ := ww_let hs
  refine ww_markF (d := (1, 67, 0)) hx hb hts hown (hnm.trans rfl) hW 65 i0 1 0 (pr_dy hc15 rfl rfl) (tgd_1 hpq) (obv_0 rfl) rfl (by decide) (Nat.le_of_ble_eq_true rfl) in_X4 tyX4_ok nmX4 rfl (Nat.le_of_ble_eq_true rfl) (hts _ q233) (fun _ h => h) rfl rfl rfl (fun _ => rfl) (fun _ => rfl) (by rw [hc18]; rfl) dX4_init_17 (fun H locs hW => ?_)
  have hW : wv g L σ19 s H locs := by rw [e20]; exact hW
  obtain ⟨hx0, hcs⟩ := lx_s (σ1 := σ19) hx0 hcs (by rw [e20]; exact (kp_M (by decide)))
  have hc21 : i0 < gN_ σ19 65 := by rw [e20]; exact hc15
  have hc22 : (gN_ σ 66) < gN_ σ19 66 := by rw [e20]; exact hc16
  have hc23 : (gN_ σ8 67) < gN_ σ19 67 := by rw [e20]; exact hc17
  have hs := ww_S hs
  exact wa_v hx hb hr hlocks hx0 hcs hW hs dX4_init_20
set_option maxHeartbeats 4000000 in
theorem c_X6_init (g : wg_T) (hgm : gm g = false) (l : Launch) (L : ly_T) (σ : st_T) (i0 : Nat) (i1 : Nat) (i2 : Nat) (σ_ : st_T) (hs : m_X6_init σ i0 i1 i2 = some σ_) : CV g l yX6_init (ws_ yX6_init cX6_init 3 none) 2 60 0 0 [.ref (L 91 i0), .ref (L 91 i1), .ref (L 91 i2)] L σ σ_ := by
  refine wbody.met (by decide) (Nat.le_of_ble_eq_true rfl) ?_
  intro p e s m args below meth c ls hx hb hr hml hlocks hts hown hnm hW hl
  have hown : s.vm.findClass RX6 = some m.cls := hown
  have hl : lv_has ls 3 [(0, .ref (L 91 i0)), (1, .ref (L 91 i1)), (2, .ref (L 91 i2))] := hl
  unfold m_X6_init at hs
  refine lv_aload_n hx hb dX6_init_0 rfl (lv_at hl 0 rfl) ?_
  refine W.objInit hx hb hown (hts _ q303) (hts _ q159) (hts _ q160) rfl (hl.1.trans hml.symm) rfl dX6_init_1 (Nat.le_of_ble_eq_true rfl) (Nat.le_of_ble_eq_true rfl) ?_
  refine lv_aload_n hx hb dX6_init_4 rfl (lv_at hl 0 rfl) ?_
  refine lv_aload_n hx hb dX6_init_5 rfl (lv_at hl 1 rfl) ?_
  obtain ⟨hc1, hs⟩ := ww_chk hs
  obtain ⟨hc2, hs⟩ := ww_chk hs
  obtain ⟨hc3, hs⟩ := ww_chk hs
  obtain ⟨σ4, e5, hs⟩ := ww_let hs
  refine mf_X6_7 hx hb hts hown (hnm.trans rfl) hW (pr_dy hc1 rfl rfl) (pr_dy hc3 rfl rfl) hc2 dX6_init_6 (fun H locs hW => ?_)
  have hW : wv g L σ4 s H locs := by rw [e5]; exact hW
  have hc6 : i0 < gN_ σ4 91 := by rw [e5]; exact hc1
  have hc7 : i1 < gN_ σ4 91 := by rw [e5]; exact hc3
  refine lv_aload_n hx hb dX6_init_9 rfl (lv_at hl 0 rfl) ?_
  refine lv_aload_n hx hb dX6_init_10 rfl (lv_at hl 2 rfl) ?_
  obtain ⟨hc8, hs⟩ := ww_chk hs
  obtain ⟨hc9, hs⟩ := ww_chk hs
  obtain ⟨σ10, e11, hs⟩ := ww_let hs
  refine mf_X6_13 hx hb hts hown (hnm.trans rfl) hW (pr_dy hc6 rfl rfl) (pr_dy hc9 rfl rfl) hc8 dX6_init_11 (fun H locs hW => ?_)
  have hW : wv g L σ10 s H locs := by rw [e11]; exact hW
  have hc12 : i0 < gN_ σ10 91 := by rw [e11]; exact hc6
  have hc13 : i1 < gN_ σ10 91 := by rw [e11]; exact hc7
  have hc14 : i2 < gN_ σ10 91 := by rw [e11]; exact hc9
  have hs := ww_S hs
  exact we_v hx hb hr hlocks hW hs (Nat.le_of_ble_eq_true rfl) (Nat.le_of_ble_eq_true rfl) dX6_init_14
set_option maxHeartbeats 4000000 in
theorem c_X7_init (g : wg_T) (hgm : gm g = false) (l : Launch) (L : ly_T) (σ : st_T) (i0 : Nat) (a1 : Int32) (i2 : Nat) (i3 : Nat) (σ_ : st_T) (hs : m_X7_init σ i0 a1 i2 i3 = some σ_) : CV g l yX7_init (ws_ yX7_init cX7_init 4 none) 3 82 0 0 [.ref (L 91 i0), .int a1, .ref (L 91 i2), .ref (L 91 i3)] L σ σ_ := by
  refine wbody.met (by decide) (Nat.le_of_ble_eq_true rfl) ?_
  intro p e s m args below meth c ls hx hb hr hml hlocks hts hown hnm hW hl
  have hown : s.vm.findClass RX7 = some m.cls := hown
  have hl : lv_has ls 4 [(0, .ref (L 91 i0)), (1, .int a1), (2, .ref (L 91 i2)), (3, .ref (L 91 i3))] := hl
  unfold m_X7_init at hs
  refine lv_aload_n hx hb dX7_init_0 rfl (lv_at hl 0 rfl) ?_
  refine lv_aload_n hx hb dX7_init_1 rfl (lv_at hl 2 rfl) ?_
  refine lv_aload_n hx hb dX7_init_2 rfl (lv_at hl 3 rfl) ?_
  obtain ⟨σ3, hc1, hs⟩ := ww_bnd hs
  refine ww_cv (va_runI (As := [.ref (L 91 i2), .ref (L 91 i3)]) (rest := []) ⟨hx, hb, hml, hown, hts⟩ (c_X6_init g hgm l L σ i0 i2 i3 _ hc1) (cwI 2 hts (lw_meth q302) rfl rfl rfl (hts _ q119) (hts _ q300) (hts _ q301) rfl hd_X6_init.2 ⟨(Nat.le_of_ble_eq_true rfl), (Nat.le_of_ble_eq_true rfl)⟩) (ww_preS hW) rfl rfl hl.1 rfl (lv_room (Nat.le_of_ble_eq_true rfl)) dX7_init_3 ⟨Nat.le_of_ble_eq_true rfl, Nat.le_of_ble_eq_true rfl⟩) hW (fun H locs hW => ?_)
  refine lv_aload_n hx hb dX7_init_6 rfl (lv_at hl 0 rfl) ?_
  refine lv_iload_n hx hb dX7_init_7 rfl (lv_at hl 1 rfl) ?_
  obtain ⟨hc4, hs⟩ := ww_chk hs
  obtain ⟨hc5, hs⟩ := ww_chk hs
  obtain ⟨σ6, e7, hs⟩ := ww_let hs
  refine ww_putF hx hb hts hown (hnm.trans rfl) hW 91 i0 2 (pr_dy hc4 rfl rfl) (obv_6 rfl hc5) rfl in_X7 tyX7_ok nmX7 rfl (Nat.le_of_ble_eq_true rfl) (hts _ q304) (fun _ h => h) rfl rfl rfl rfl rfl dX7_init_8 (fun H locs hW => ?_)
  have hW : wv g L σ6 s H locs := by rw [e7]; exact hW
  have hc8 : i0 < gN_ σ6 91 := by rw [e7]; exact hc4
  have hs := ww_S hs
  exact we_v hx hb hr hlocks hW hs (Nat.le_of_ble_eq_true rfl) (Nat.le_of_ble_eq_true rfl) dX7_init_11
set_option maxHeartbeats 4000000 in
theorem c_X7_of (g : wg_T) (hgm : gm g = true) (l : Launch) (L : ly_T) (σ : st_T) (i0 : Nat) (a1 : Int32) (a2 : Int32) (r_ : Int32) (hs : m_X7_of σ i0 a1 a2 = some r_) : CI g l yX7_of (ws_ yX7_of cX7_of 3 (some .int)) 2 60 0 0 [.ref (L 91 i0), .int a1, .int a2] L σ r_ σ := by
  refine wbody.met (by decide) (Nat.le_of_ble_eq_true rfl) ?_
  intro p e s m args below meth c ls hx hb hr hml hlocks hts hown hnm hW hl
  have hown : s.vm.findClass RX7 = some m.cls := hown
  have hl : lv_has ls 3 [(0, .ref (L 91 i0)), (1, .int a1), (2, .int a2)] := hl
  unfold m_X7_of at hs
  have hL48 : ∀ (σ : st_T) (x1 : Int32) (x2 : Int32) (H : Heap) (locs : List Loc) (ls : Array Slot), wv g L σ s H locs → lv_has ls 3 [(1, .int x1), (2, .int x2)] → (m_X7_of_L48 i0) σ x1 x2 = some r_ → W p l e (wrm 2 60 0 0) s m args below meth c H locs 0 0 (MQ below (wQi g L r_ σ) args s 0 0 (fun q => gz g ≤ q)) (F0 m 48 ls []) := by
    have hL59 : ∀ (σ : st_T) (t0 : Int32) (H : Heap) (locs : List Loc) (ls : Array Slot), wv g L σ s H locs → lv_has ls 3 [] → (m_X7_of_L59 i0) σ t0 = some r_ → W p l e (wrm 2 60 0 0) s m args below meth c H locs 0 0 (MQ below (wQi g L r_ σ) args s 0 0 (fun q => gz g ≤ q)) (F0 m 59 ls [.int t0]) := by
      intro σ t0 H locs ls hW hl hs
      unfold m_X7_of_L59 at hs
      have hs := ww_S hs
      exact we_i hx hb hr hlocks hW hs rfl (Nat.le_of_ble_eq_true rfl) (Nat.le_of_ble_eq_true rfl) dX7_of_59
    intro σ x1 x2 H locs ls hW hl hs
    unfold m_X7_of_L48 at hs
    refine lv_iload_n hx hb dX7_of_48 rfl (lv_at hl 1 rfl) ?_
    refine lv_if_ne (tgt := 56) hx hb dX7_of_49 (by decide) (fun hc1 => ?_) (fun hc1 => ?_)
    · have hs := ww_F hs hc1
      refine lv_iload_n hx hb dX7_of_56 rfl (lv_at hl 0 rfl) ?_
      refine lv_iload_n hx hb dX7_of_57 rfl (lv_at hl 1 rfl) ?_
      obtain ⟨hc2, hs⟩ := ww_chk hs
      refine lv_idiv hx hb dX7_of_58 hc2 ?_
      exact hL59 σ (x1 / x2) _ _ ls hW (lv_sub hl [] rfl) hs
    · have hs := ww_T hs hc1
      refine lv_iconst (v := 0) hx hb dX7_of_52 (by decide) ?_
      refine lv_goto (tgt := 59) hx hb dX7_of_53 (by decide) ?_
      exact hL59 σ (0 : Int32) _ _ ls hW (lv_sub hl [] rfl) hs
  refine lv_aload_n hx hb dX7_of_0 rfl (lv_at hl 0 rfl) ?_
  obtain ⟨hc3, hs⟩ := ww_chk hs
  obtain ⟨hc4, hs⟩ := ww_chk hs
  refine gf_X7_7 hx hb hts hown hW (pr_dy hc3 rfl rfl) hc4 dX7_of_1 ?_
  by_cases hc5 : (gF_ σ 91 2 i0) = (42 : Int32)
  · have hs := ww_T hs hc5
    refine lv_tableIn (off := 40) (tgt := 44) hx hb dX7_of_4 (by rw [hc5]; decide) (by rw [hc5]; decide) (by rw [hc5]; rfl) (by decide) ?_
    refine lv_iload_n hx hb dX7_of_44 rfl (lv_at hl 1 rfl) ?_
    refine lv_iload_n hx hb dX7_of_45 rfl (lv_at hl 2 rfl) ?_
    refine lv_imul hx hb dX7_of_46 ?_
    have hs := ww_S hs
    exact we_i hx hb hr hlocks hW hs rfl (Nat.le_of_ble_eq_true rfl) (Nat.le_of_ble_eq_true rfl) dX7_of_47
  · have hs := ww_F hs hc5
    by_cases hc6 : (gF_ σ 91 2 i0) = (43 : Int32)
    · have hs := ww_T hs hc6
      refine lv_tableIn (off := 32) (tgt := 36) hx hb dX7_of_4 (by rw [hc6]; decide) (by rw [hc6]; decide) (by rw [hc6]; rfl) (by decide) ?_
      refine lv_iload_n hx hb dX7_of_36 rfl (lv_at hl 1 rfl) ?_
      refine lv_iload_n hx hb dX7_of_37 rfl (lv_at hl 2 rfl) ?_
      refine lv_iadd hx hb dX7_of_38 ?_
      have hs := ww_S hs
      exact we_i hx hb hr hlocks hW hs rfl (Nat.le_of_ble_eq_true rfl) (Nat.le_of_ble_eq_true rfl) dX7_of_39
    · have hs := ww_F hs hc6
      by_cases hc7 : (gF_ σ 91 2 i0) = (44 : Int32)
      · have hs := ww_T hs hc7
        refine lv_tableIn (off := 44) (tgt := 48) hx hb dX7_of_4 (by rw [hc7]; decide) (by rw [hc7]; decide) (by rw [hc7]; rfl) (by decide) ?_
        exact hL48 σ a1 a2 _ _ ls hW (lv_sub hl [1, 2] rfl) hs
      · have hs := ww_F hs hc7
        by_cases hc8 : (gF_ σ 91 2 i0) = (45 : Int32)
        · have hs := ww_T hs hc8
          refine lv_tableIn (off := 36) (tgt := 40) hx hb dX7_of_4 (by rw [hc8]; decide) (by rw [hc8]; decide) (by rw [hc8]; rfl) (by decide) ?_
          refine lv_iload_n hx hb dX7_of_40 rfl (lv_at hl 1 rfl) ?_
          refine lv_iload_n hx hb dX7_of_41 rfl (lv_at hl 2 rfl) ?_
          refine lv_isub hx hb dX7_of_42 ?_
          have hs := ww_S hs
          exact we_i hx hb hr hlocks hW hs rfl (Nat.le_of_ble_eq_true rfl) (Nat.le_of_ble_eq_true rfl) dX7_of_43
        · have hs := ww_F hs hc8
          refine lv_tableOut (tgt := 48) hx hb dX7_of_4 (by have z0 := lv_neT (k := (42 : Int32)) (a := 42) hc5 rfl; have z1 := lv_neT (k := (43 : Int32)) (a := 43) hc6 rfl; have z2 := lv_neT (k := (44 : Int32)) (a := 44) hc7 rfl; have z3 := lv_neT (k := (45 : Int32)) (a := 45) hc8 rfl; omega) (by decide) ?_
          exact hL48 σ a1 a2 _ _ ls hW (lv_sub hl [1, 2] rfl) hs
set_option maxHeartbeats 4000000 in
theorem c_X8_init (g : wg_T) (hgm : gm g = false) (l : Launch) (L : ly_T) (σ : st_T) (i0 : Nat) (a1 : Int32) (σ_ : st_T) (hs : m_X8_init σ i0 a1 = some σ_) : CV g l yX8_init (ws_ yX8_init cX8_init 2 none) 2 60 0 0 [.ref (L 91 i0), .int a1] L σ σ_ := by
  refine wbody.met (by decide) (Nat.le_of_ble_eq_true rfl) ?_
  intro p e s m args below meth c ls hx hb hr hml hlocks hts hown hnm hW hl
  have hown : s.vm.findClass RX8 = some m.cls := hown
  have hl : lv_has ls 2 [(0, .ref (L 91 i0)), (1, .int a1)] := hl
  unfold m_X8_init at hs
  refine lv_aload_n hx hb dX8_init_0 rfl (lv_at hl 0 rfl) ?_
  refine W.objInit hx hb hown (hts _ q282) (hts _ q159) (hts _ q160) rfl (hl.1.trans hml.symm) rfl dX8_init_1 (Nat.le_of_ble_eq_true rfl) (Nat.le_of_ble_eq_true rfl) ?_
  refine lv_aload_n hx hb dX8_init_4 rfl (lv_at hl 0 rfl) ?_
  refine lv_iload_n hx hb dX8_init_5 rfl (lv_at hl 1 rfl) ?_
  obtain ⟨hc1, hs⟩ := ww_chk hs
  obtain ⟨hc2, hs⟩ := ww_chk hs
  obtain ⟨σ3, e4, hs⟩ := ww_let hs
  refine ww_putF hx hb hts hown (hnm.trans rfl) hW 91 i0 0 (pr_dy hc1 rfl rfl) (obv_6 rfl hc2) rfl in_X8 tyX8_ok nmX8 rfl (Nat.le_of_ble_eq_true rfl) (hts _ q283) (fun _ h => h) rfl rfl rfl rfl rfl dX8_init_6 (fun H locs hW => ?_)
  have hW : wv g L σ3 s H locs := by rw [e4]; exact hW
  have hc5 : i0 < gN_ σ3 91 := by rw [e4]; exact hc1
  have hs := ww_S hs
  exact we_v hx hb hr hlocks hW hs (Nat.le_of_ble_eq_true rfl) (Nat.le_of_ble_eq_true rfl) dX8_init_9
set_option maxHeartbeats 4000000 in
theorem c_X8_value (g : wg_T) (hgm : gm g = true) (l : Launch) (L : ly_T) (σ : st_T) (i0 : Nat) (r_ : Int32) (hs : m_X8_value σ i0 = some r_) : CI g l yX8_value (ws_ yX8_value cX8_value 2 (some .int)) 2 60 0 0 [.ref (L 91 i0), .ref (L 29 0)] L σ r_ σ := by
  refine wbody.met (by decide) (Nat.le_of_ble_eq_true rfl) ?_
  intro p e s m args below meth c ls hx hb hr hml hlocks hts hown hnm hW hl
  have hown : s.vm.findClass RX8 = some m.cls := hown
  have hl : lv_has ls 2 [(0, .ref (L 91 i0)), (1, .ref (L 29 0))] := hl
  unfold m_X8_value at hs
  refine lv_aload_n hx hb dX8_value_0 rfl (lv_at hl 1 rfl) ?_
  refine lv_aload_n hx hb dX8_value_1 rfl (lv_at hl 0 rfl) ?_
  obtain ⟨hc1, hs⟩ := ww_chk hs
  obtain ⟨hc2, hs⟩ := ww_chk hs
  refine gf_X8_7 hx hb hts hown hW (pr_dy hc1 rfl rfl) hc2 dX8_value_2 ?_
  obtain ⟨hc3, hs⟩ := ww_chk hs
  refine ww_iald hx hb hW 29 0 (pr_st (hW.rd hgm) (Nat.le_of_ble_eq_true rfl)) rfl hc3 dX8_value_5 ?_
  have hs := ww_S hs
  exact we_i hx hb hr hlocks hW hs rfl (Nat.le_of_ble_eq_true rfl) (Nat.le_of_ble_eq_true rfl) dX8_value_6
set_option maxHeartbeats 4000000 in
theorem c_X9_init (g : wg_T) (hgm : gm g = false) (l : Launch) (L : ly_T) (σ : st_T) (i0 : Nat) (a1 : Int32) (σ_ : st_T) (hs : m_X9_init σ i0 a1 = some σ_) : CV g l yX9_init (ws_ yX9_init cX9_init 2 none) 2 60 0 0 [.ref (L 91 i0), .int a1] L σ σ_ := by
  refine wbody.met (by decide) (Nat.le_of_ble_eq_true rfl) ?_
  intro p e s m args below meth c ls hx hb hr hml hlocks hts hown hnm hW hl
  have hown : s.vm.findClass RX9 = some m.cls := hown
  have hl : lv_has ls 2 [(0, .ref (L 91 i0)), (1, .int a1)] := hl
  unfold m_X9_init at hs
  refine lv_aload_n hx hb dX9_init_0 rfl (lv_at hl 0 rfl) ?_
  refine W.objInit hx hb hown (hts _ q292) (hts _ q159) (hts _ q160) rfl (hl.1.trans hml.symm) rfl dX9_init_1 (Nat.le_of_ble_eq_true rfl) (Nat.le_of_ble_eq_true rfl) ?_
  refine lv_aload_n hx hb dX9_init_4 rfl (lv_at hl 0 rfl) ?_
  refine lv_iload_n hx hb dX9_init_5 rfl (lv_at hl 1 rfl) ?_
  obtain ⟨hc1, hs⟩ := ww_chk hs
  obtain ⟨hc2, hs⟩ := ww_chk hs
  obtain ⟨σ3, e4, hs⟩ := ww_let hs
  refine ww_putF hx hb hts hown (hnm.trans rfl) hW 91 i0 0 (pr_dy hc1 rfl rfl) (obv_6 rfl hc2) rfl in_X9 tyX9_ok nmX9 rfl (Nat.le_of_ble_eq_true rfl) (hts _ q293) (fun _ h => h) rfl rfl rfl rfl rfl dX9_init_6 (fun H locs hW => ?_)
  have hW : wv g L σ3 s H locs := by rw [e4]; exact hW
  have hc5 : i0 < gN_ σ3 91 := by rw [e4]; exact hc1
  have hs := ww_S hs
  exact we_v hx hb hr hlocks hW hs (Nat.le_of_ble_eq_true rfl) (Nat.le_of_ble_eq_true rfl) dX9_init_9
set_option maxHeartbeats 4000000 in
theorem c_X9_value (g : wg_T) (hgm : gm g = true) (l : Launch) (L : ly_T) (σ : st_T) (i0 : Nat) (r_ : Int32) (hs : m_X9_value σ i0 = some r_) : CI g l yX9_value (ws_ yX9_value cX9_value 2 (some .int)) 2 60 0 0 [.ref (L 91 i0), .ref (L 29 0)] L σ r_ σ := by
  refine wbody.met (by decide) (Nat.le_of_ble_eq_true rfl) ?_
  intro p e s m args below meth c ls hx hb hr hml hlocks hts hown hnm hW hl
  have hown : s.vm.findClass RX9 = some m.cls := hown
  have hl : lv_has ls 2 [(0, .ref (L 91 i0)), (1, .ref (L 29 0))] := hl
  unfold m_X9_value at hs
  refine lv_aload_n hx hb dX9_value_0 rfl (lv_at hl 0 rfl) ?_
  obtain ⟨hc1, hs⟩ := ww_chk hs
  obtain ⟨hc2, hs⟩ := ww_chk hs
  refine gf_X9_7 hx hb hts hown hW (pr_dy hc1 rfl rfl) hc2 dX9_value_1 ?_
  have hs := ww_S hs
  exact we_i hx hb hr hlocks hW hs rfl (Nat.le_of_ble_eq_true rfl) (Nat.le_of_ble_eq_true rfl) dX9_value_4
set_option maxHeartbeats 4000000 in
theorem c_X1_rents (g : wg_T) (hgm : gm g = true) (l : Launch) (L : ly_T) (σ : st_T) (a1 : Int32) (a2 : Int32) (hst : l.stackTraces = false) (o_ : Nat ⊕ Int32) (σ_ : st_T) (hs : m_X1_rents σ a1 a2 = some (o_, σ_)) : YI g l yX1_rents (ws_ yX1_rents cX1_rents 3 (some .int)) 9 160 [.ref (L 1 0), .int a1, .int a2] L σ o_ σ_ := by
  refine xbody.met (by decide) (Nat.le_of_ble_eq_true rfl) ?_
  intro p e s m args below meth c ls hx hb hr hml hlocks hts hown hnm hout hW hl
  have hown : s.vm.findClass RX1 = some m.cls := hown
  obtain ⟨L0, hL0⟩ : ∃ L0, L0 = L := ⟨_, rfl⟩
  obtain ⟨σ0, hσ0⟩ : ∃ σ0, σ0 = σ := ⟨_, rfl⟩
  rw [← hσ0, ← hL0]
  have hx0 : lext L0 σ0 L σ := by rw [hL0, hσ0]; exact lext.refl
  have hcs : bk σ0 σ 0 0 := bk.start hσ0
  have hrm : 0 ≤ cu_ σ_ - cu_ σ0 ∧ 0 ≤ su_ σ_ - su_ σ0 := ⟨Nat.zero_le _, Nat.zero_le _⟩
  have hl : lv_has ls 3 [(0, .ref (L 1 0)), (1, .int a1), (2, .int a2)] := hl
  unfold m_X1_rents at hs
  refine lv_iload_n hx hb dX1_rents_0 rfl (lv_at hl 1 rfl) ?_
  obtain ⟨o3, hc1, hs⟩ := ww_bnd hs
  rcases o3 with k4 | v5
  · have hs := ww_sL hs
    have hs := ww_S hs
    have e1 : o_ = .inl k4 := congrArg Prod.fst hs
    have e2 : σ_ = bX_ σ := congrArg Prod.snd hs
    subst e1
    have hrmx := hcs.room (σ1 := bX_ σ) (σ_ := σ_) (a := 1) (b := 6) rfl rfl (by rw [e2]; exact ⟨Nat.le_refl _, Nat.le_refl _⟩)
    exact wz_prop (vx_runS (As := [.int a1]) (rest := []) ⟨hx, hb, hml, hown, hts⟩ (c_X1_cell g hgm l L σ a1 hst _ hc1) (va_cwS 1 hts (lw_S q821 q822 q111 q823) rfl rfl rfl hd_X1_cell.2 ⟨(Nat.le_of_ble_eq_true rfl), (Nat.le_of_ble_eq_true rfl)⟩) (ww_preS hW) rfl rfl hl.1 rfl (lv_room (Nat.le_of_ble_eq_true rfl)) dX1_rents_1 hrmx) no_v hx0 hW hlocks hout rfl e2 hrmx
  · have hs := ww_sR hs
    refine ww_xv0 (vx_runS (As := [.int a1]) (rest := []) ⟨hx, hb, hml, hown, hts⟩ (c_X1_cell g hgm l L σ a1 hst _ hc1) (va_cwS 1 hts (lw_S q821 q822 q111 q823) rfl rfl rfl hd_X1_cell.2 ⟨(Nat.le_of_ble_eq_true rfl), (Nat.le_of_ble_eq_true rfl)⟩) (ww_preS hW) rfl rfl hl.1 rfl (lv_room (Nat.le_of_ble_eq_true rfl)) dX1_rents_1 hrm) hW (fun H locs hW => ?_)
    refine lv_iload_n hx hb dX1_rents_4 rfl (lv_at hl 2 rfl) ?_
    obtain ⟨o8, hc6, hs⟩ := ww_bnd hs
    rcases o8 with k9 | v10
    · have hs := ww_sL hs
      have hs := ww_S hs
      have e1 : o_ = .inl k9 := congrArg Prod.fst hs
      have e2 : σ_ = bX_ σ := congrArg Prod.snd hs
      subst e1
      have hrmx := hcs.room (σ1 := bX_ σ) (σ_ := σ_) (a := 1) (b := 6) rfl rfl (by rw [e2]; exact ⟨Nat.le_refl _, Nat.le_refl _⟩)
      exact wz_prop (vx_runS (As := [.int a2]) (rest := []) ⟨hx, hb, hml, hown, hts⟩ (c_X1_cell g hgm l L σ a2 hst _ hc6) (va_cwS 1 hts (lw_S q821 q822 q111 q823) rfl rfl rfl hd_X1_cell.2 ⟨(Nat.le_of_ble_eq_true rfl), (Nat.le_of_ble_eq_true rfl)⟩) (ww_preS hW) rfl rfl hl.1 rfl (lv_room (Nat.le_of_ble_eq_true rfl)) dX1_rents_5 hrmx) no_v hx0 hW hlocks hout rfl e2 hrmx
    · have hs := ww_sR hs
      refine ww_xv0 (vx_runS (As := [.int a2]) (rest := []) ⟨hx, hb, hml, hown, hts⟩ (c_X1_cell g hgm l L σ a2 hst _ hc6) (va_cwS 1 hts (lw_S q821 q822 q111 q823) rfl rfl rfl hd_X1_cell.2 ⟨(Nat.le_of_ble_eq_true rfl), (Nat.le_of_ble_eq_true rfl)⟩) (ww_preS hW) rfl rfl hl.1 rfl (lv_room (Nat.le_of_ble_eq_true rfl)) dX1_rents_5 hrm) hW (fun H locs hW => ?_)
      refine lv_aload_n hx hb dX1_rents_8 rfl (lv_at hl 0 rfl) ?_
      refine lv_iload_n hx hb dX1_rents_9 rfl (lv_at hl 1 rfl) ?_
      refine lv_iload_n hx hb dX1_rents_10 rfl (lv_at hl 2 rfl) ?_
      obtain ⟨v13, σ14, hc11, hs⟩ := ww_bn2 hs
      have hl : lv_has ls 3 [] := lv_sub hl [] rfl
      obtain ⟨hc15, hs⟩ := ww_chk hs
      obtain ⟨hs, hck⟩ := ww_ck2 hs
      have hrm1 := hcs.roomC hc15 hck
      refine wa_ci (va_runV (As := [.int a1, .int a2]) (rest := []) ⟨hx, hb, hml, hown, hts⟩ (c_X1_opens g hgm l L σ a1 a2 _ _ hc11) (cwV 2 hts (lw_V q1652 q1654 qs41 q111 q1655) rfl rfl rfl hd_X1_opens ⟨(Nat.le_of_ble_eq_true rfl), (Nat.le_of_ble_eq_true rfl)⟩) (ww_preV hW (pr_st (hW.rd hgm) (Nat.le_of_ble_eq_true rfl)) (obv_0 rfl) rfl) rfl rfl hl.1 rfl (lv_room (Nat.le_of_ble_eq_true rfl)) dX1_rents_11 hrm1) hW (fun H locs L hx1 hW => ?_)
      have hcs := hcs.call hc15
      have hrm := hrm1
      have hx0 := hx0.trans hx1
      have hs := ww_S hs
      exact wz_i hx hb hr hlocks hx0 hcs hW (congrArg Prod.fst hs) (congrArg Prod.snd hs) dX1_rents_14
set_option maxHeartbeats 4000000 in
theorem c_X12_init (g : wg_T) (hgm : gm g = false) (l : Launch) (L : ly_T) (σ : st_T) (i0 : Nat) (a1 : Int32) (i2 : Nat) (i3 : Nat) (σ_ : st_T) (hs : m_X12_init σ i0 a1 i2 i3 = some σ_) : CV g l yX12_init (ws_ yX12_init cX12_init 4 none) 3 82 0 0 [.ref (L 91 i0), .int a1, .ref (L 91 i2), .ref (L 91 i3)] L σ σ_ := by
  refine wbody.met (by decide) (Nat.le_of_ble_eq_true rfl) ?_
  intro p e s m args below meth c ls hx hb hr hml hlocks hts hown hnm hW hl
  have hown : s.vm.findClass RX12 = some m.cls := hown
  have hl : lv_has ls 4 [(0, .ref (L 91 i0)), (1, .int a1), (2, .ref (L 91 i2)), (3, .ref (L 91 i3))] := hl
  unfold m_X12_init at hs
  refine lv_aload_n hx hb dX12_init_0 rfl (lv_at hl 0 rfl) ?_
  refine lv_aload_n hx hb dX12_init_1 rfl (lv_at hl 2 rfl) ?_
  refine lv_aload_n hx hb dX12_init_2 rfl (lv_at hl 3 rfl) ?_
  obtain ⟨σ3, hc1, hs⟩ := ww_bnd hs
  refine ww_cv (va_runI (As := [.ref (L 91 i2), .ref (L 91 i3)]) (rest := []) ⟨hx, hb, hml, hown, hts⟩ (c_X6_init g hgm l L σ i0 i2 i3 _ hc1) (cwI 2 hts (lw_meth q302) rfl rfl rfl (hts _ q119) (hts _ q1095) (hts _ q301) rfl hd_X6_init.2 ⟨(Nat.le_of_ble_eq_true rfl), (Nat.le_of_ble_eq_true rfl)⟩) (ww_preS hW) rfl rfl hl.1 rfl (lv_room (Nat.le_of_ble_eq_true rfl)) dX12_init_3 ⟨Nat.le_of_ble_eq_true rfl, Nat.le_of_ble_eq_true rfl⟩) hW (fun H locs hW => ?_)
  refine lv_aload_n hx hb dX12_init_6 rfl (lv_at hl 0 rfl) ?_
  refine lv_iload_n hx hb dX12_init_7 rfl (lv_at hl 1 rfl) ?_
  obtain ⟨hc4, hs⟩ := ww_chk hs
  obtain ⟨hc5, hs⟩ := ww_chk hs
  obtain ⟨σ6, e7, hs⟩ := ww_let hs
  refine ww_putF hx hb hts hown (hnm.trans rfl) hW 91 i0 2 (pr_dy hc4 rfl rfl) (obv_6 rfl hc5) rfl in_X12 tyX12_ok nmX12 rfl (Nat.le_of_ble_eq_true rfl) (hts _ q1096) (fun _ h => h) rfl rfl rfl rfl rfl dX12_init_8 (fun H locs hW => ?_)
  have hW : wv g L σ6 s H locs := by rw [e7]; exact hW
  have hc8 : i0 < gN_ σ6 91 := by rw [e7]; exact hc4
  have hs := ww_S hs
  exact we_v hx hb hr hlocks hW hs (Nat.le_of_ble_eq_true rfl) (Nat.le_of_ble_eq_true rfl) dX12_init_11
set_option maxHeartbeats 4000000 in
theorem c_X14_init (g : wg_T) (hgm : gm g = false) (l : Launch) (L : ly_T) (σ : st_T) (i0 : Nat) (i1 : Nat) (i2 : Nat) (σ_ : st_T) (hs : m_X14_init σ i0 i1 i2 = some σ_) : CV g l yX14_init (ws_ yX14_init cX14_init 3 none) 3 82 0 0 [.ref (L 91 i0), .ref (L 91 i1), .ref (L 91 i2)] L σ σ_ := by
  refine wbody.met (by decide) (Nat.le_of_ble_eq_true rfl) ?_
  intro p e s m args below meth c ls hx hb hr hml hlocks hts hown hnm hW hl
  have hown : s.vm.findClass RX14 = some m.cls := hown
  have hl : lv_has ls 3 [(0, .ref (L 91 i0)), (1, .ref (L 91 i1)), (2, .ref (L 91 i2))] := hl
  unfold m_X14_init at hs
  refine lv_aload_n hx hb dX14_init_0 rfl (lv_at hl 0 rfl) ?_
  refine lv_aload_n hx hb dX14_init_1 rfl (lv_at hl 1 rfl) ?_
  refine lv_aload_n hx hb dX14_init_2 rfl (lv_at hl 2 rfl) ?_
  obtain ⟨σ3, hc1, hs⟩ := ww_bnd hs
  refine ww_cv (va_runI (As := [.ref (L 91 i1), .ref (L 91 i2)]) (rest := []) ⟨hx, hb, hml, hown, hts⟩ (c_X6_init g hgm l L σ i0 i1 i2 _ hc1) (cwI 2 hts (lw_meth q302) rfl rfl rfl (hts _ q119) (hts _ q1127) (hts _ q301) rfl hd_X6_init.2 ⟨(Nat.le_of_ble_eq_true rfl), (Nat.le_of_ble_eq_true rfl)⟩) (ww_preS hW) rfl rfl hl.1 rfl (lv_room (Nat.le_of_ble_eq_true rfl)) dX14_init_3 ⟨Nat.le_of_ble_eq_true rfl, Nat.le_of_ble_eq_true rfl⟩) hW (fun H locs hW => ?_)
  have hs := ww_S hs
  exact we_v hx hb hr hlocks hW hs (Nat.le_of_ble_eq_true rfl) (Nat.le_of_ble_eq_true rfl) dX14_init_6
set_option maxHeartbeats 4000000 in
theorem c_X15_init (g : wg_T) (hgm : gm g = false) (l : Launch) (L : ly_T) (σ : st_T) (i0 : Nat) (i1 : Nat) (i2 : Nat) (σ_ : st_T) (hs : m_X15_init σ i0 i1 i2 = some σ_) : CV g l yX15_init (ws_ yX15_init cX15_init 3 none) 3 82 0 0 [.ref (L 91 i0), .ref (L 91 i1), .ref (L 91 i2)] L σ σ_ := by
  refine wbody.met (by decide) (Nat.le_of_ble_eq_true rfl) ?_
  intro p e s m args below meth c ls hx hb hr hml hlocks hts hown hnm hW hl
  have hown : s.vm.findClass RX15 = some m.cls := hown
  have hl : lv_has ls 3 [(0, .ref (L 91 i0)), (1, .ref (L 91 i1)), (2, .ref (L 91 i2))] := hl
  unfold m_X15_init at hs
  refine lv_aload_n hx hb dX15_init_0 rfl (lv_at hl 0 rfl) ?_
  refine lv_aload_n hx hb dX15_init_1 rfl (lv_at hl 1 rfl) ?_
  refine lv_aload_n hx hb dX15_init_2 rfl (lv_at hl 2 rfl) ?_
  obtain ⟨σ3, hc1, hs⟩ := ww_bnd hs
  refine ww_cv (va_runI (As := [.ref (L 91 i1), .ref (L 91 i2)]) (rest := []) ⟨hx, hb, hml, hown, hts⟩ (c_X6_init g hgm l L σ i0 i1 i2 _ hc1) (cwI 2 hts (lw_meth q302) rfl rfl rfl (hts _ q119) (hts _ q1136) (hts _ q301) rfl hd_X6_init.2 ⟨(Nat.le_of_ble_eq_true rfl), (Nat.le_of_ble_eq_true rfl)⟩) (ww_preS hW) rfl rfl hl.1 rfl (lv_room (Nat.le_of_ble_eq_true rfl)) dX15_init_3 ⟨Nat.le_of_ble_eq_true rfl, Nat.le_of_ble_eq_true rfl⟩) hW (fun H locs hW => ?_)
  have hs := ww_S hs
  exact we_v hx hb hr hlocks hW hs (Nat.le_of_ble_eq_true rfl) (Nat.le_of_ble_eq_true rfl) dX15_init_6
