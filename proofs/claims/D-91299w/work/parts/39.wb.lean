set_option maxRecDepth 100000
section
variable {p : Program} {l : Launch} {e : Env} {R : Room} {s : State} {m : MethodId} {args : Array Value} {below : List Frame} {meth : Method} {c : Code} {H : Heap} {locs : List Loc} {cells slots : Nat} {Q : State → Prop} {cc : ByteArray} {pc : Nat} {ls : Array Slot} {rest : List Value} {g : wg_T} {L : ly_T} {σ : st_T}
theorem gf_X1_51 (hexec : p.tables.exec = Jvm.exec) (hb : c.code = cc) (hts : ∀ w ∈ lw_all, w.before args s = true) (hown : s.vm.findClass RX1 = some m.cls) (hW : wv g L σ s H locs) {i : Nat} (hpr : pr σ 1 i) (hfl : gP_ σ 1 (200 + 3) i ≠ 0) (hdg : decode cc pc = .ok (.getfield 51, 3)) (kk : W p l e R s m args below meth c H locs cells slots Q (F0 m (pc + 3) ls (.ref (L 50 2) :: rest))) : W p l e R s m args below meth c H locs cells slots Q (F0 m pc ls (.ref (L 1 i) :: rest)) :=
  ww_get (d := (1, 50, 2)) hexec hb hts hown hW 1 i 3 hpr (obv_0 rfl) rfl in_X1 rfl (Nat.le_of_ble_eq_true rfl) (hts _ q362) (fun _ h => h) hdg (by rw [fv_p (fun z => by cases z) hfl]; exact kk)
theorem gf_X1_127 (hexec : p.tables.exec = Jvm.exec) (hb : c.code = cc) (hts : ∀ w ∈ lw_all, w.before args s = true) (hown : s.vm.findClass RX1 = some m.cls) (hW : wv g L σ s H locs) {i : Nat} (hpr : pr σ 1 i) (hfl : gP_ σ 1 (200 + 24) i ≠ 0) (hdg : decode cc pc = .ok (.getfield 127, 3)) (kk : W p l e R s m args below meth c H locs cells slots Q (F0 m (pc + 3) ls (.ref (L 32 2) :: rest))) : W p l e R s m args below meth c H locs cells slots Q (F0 m pc ls (.ref (L 1 i) :: rest)) :=
  ww_get (d := (1, 32, 2)) hexec hb hts hown hW 1 i 24 hpr (obv_0 rfl) rfl in_X1 rfl (Nat.le_of_ble_eq_true rfl) (hts _ q384) (fun _ h => h) hdg (by rw [fv_p (fun z => by cases z) hfl]; exact kk)
theorem gf_X1_383 (hexec : p.tables.exec = Jvm.exec) (hb : c.code = cc) (hts : ∀ w ∈ lw_all, w.before args s = true) (hown : s.vm.findClass RX1 = some m.cls) (hW : wv g L σ s H locs) {i : Nat} (hpr : pr σ 92 i) (hdg : decode cc pc = .ok (.getfield 383, 3)) (kk : W p l e R s m args below meth c H locs cells slots Q (F0 m (pc + 3) ls (.int (gF_ σ 92 7 i) :: rest))) : W p l e R s m args below meth c H locs cells slots Q (F0 m pc ls (.ref (L 92 i) :: rest)) :=
  ww_getN (d := (0, 0, 0)) hexec hb hts hown hW 92 i 7 hpr (obv_0 rfl) rfl in_X19 rfl (Nat.le_of_ble_eq_true rfl) (hW.nw 59 rfl) (fun _ h => h) hdg kk
theorem gf_X1_387 (hexec : p.tables.exec = Jvm.exec) (hb : c.code = cc) (hts : ∀ w ∈ lw_all, w.before args s = true) (hown : s.vm.findClass RX1 = some m.cls) (hW : wv g L σ s H locs) {i : Nat} (hpr : pr σ 92 i) (hfl : gP_ σ 92 (200 + 3) i ≠ 0) (hdg : decode cc pc = .ok (.getfield 387, 3)) (kk : W p l e R s m args below meth c H locs cells slots Q (F0 m (pc + 3) ls (.ref (L 94 i) :: rest))) : W p l e R s m args below meth c H locs cells slots Q (F0 m pc ls (.ref (L 92 i) :: rest)) :=
  ww_getN (d := (2, 94, 0)) hexec hb hts hown hW 92 i 3 hpr (obv_0 rfl) rfl in_X19 rfl (Nat.le_of_ble_eq_true rfl) (hW.nw 57 rfl) (fun _ h => h) hdg (by rw [fv_p (fun z => by cases z) hfl]; exact kk)
theorem gf_X1_390 (hexec : p.tables.exec = Jvm.exec) (hb : c.code = cc) (hts : ∀ w ∈ lw_all, w.before args s = true) (hown : s.vm.findClass RX1 = some m.cls) (hW : wv g L σ s H locs) {i : Nat} (hpr : pr σ 92 i) (hdg : decode cc pc = .ok (.getfield 390, 3)) (kk : W p l e R s m args below meth c H locs cells slots Q (F0 m (pc + 3) ls (.int (gF_ σ 92 6 i) :: rest))) : W p l e R s m args below meth c H locs cells slots Q (F0 m pc ls (.ref (L 92 i) :: rest)) :=
  ww_getN (d := (0, 0, 0)) hexec hb hts hown hW 92 i 6 hpr (obv_0 rfl) rfl in_X19 rfl (Nat.le_of_ble_eq_true rfl) (hW.nw 58 rfl) (fun _ h => h) hdg kk
theorem gf_X19_39 (hexec : p.tables.exec = Jvm.exec) (hb : c.code = cc) (hts : ∀ w ∈ lw_all, w.before args s = true) (hown : s.vm.findClass RX19 = some m.cls) (hW : wv g L σ s H locs) {i : Nat} (hpr : pr σ 1 i) (hfl : gP_ σ 1 (200 + 13) i ≠ 0) (hdg : decode cc pc = .ok (.getfield 39, 3)) (kk : W p l e R s m args below meth c H locs cells slots Q (F0 m (pc + 3) ls (.ref (L 23 0) :: rest))) : W p l e R s m args below meth c H locs cells slots Q (F0 m pc ls (.ref (L 1 i) :: rest)) :=
  ww_getN (d := (1, 23, 0)) hexec hb hts hown hW 1 i 13 hpr (obv_0 rfl) rfl in_X1 rfl (Nat.le_of_ble_eq_true rfl) (hW.nw 20 rfl) (fun _ h => h) hdg (by rw [fv_p (fun z => by cases z) hfl]; exact kk)
theorem gf_X19_42 (hexec : p.tables.exec = Jvm.exec) (hb : c.code = cc) (hts : ∀ w ∈ lw_all, w.before args s = true) (hown : s.vm.findClass RX19 = some m.cls) (hW : wv g L σ s H locs) {i : Nat} (hpr : pr σ 1 i) (hfl : gP_ σ 1 (200 + 25) i ≠ 0) (hdg : decode cc pc = .ok (.getfield 42, 3)) (kk : W p l e R s m args below meth c H locs cells slots Q (F0 m (pc + 3) ls (.ref (L 35 0) :: rest))) : W p l e R s m args below meth c H locs cells slots Q (F0 m pc ls (.ref (L 1 i) :: rest)) :=
  ww_getN (d := (1, 35, 0)) hexec hb hts hown hW 1 i 25 hpr (obv_0 rfl) rfl in_X1 rfl (Nat.le_of_ble_eq_true rfl) (hW.nw 21 rfl) (fun _ h => h) hdg (by rw [fv_p (fun z => by cases z) hfl]; exact kk)
theorem pf_X1_325 (hexec : p.tables.exec = Jvm.exec) (hb : c.code = cc) (hts : ∀ w ∈ lw_all, w.before args s = true) (hown : s.vm.findClass RX1 = some m.cls) (hW : wv g L σ s H locs) {i : Nat} (hpr : pr σ 1 i) {v : Int32} (hdg : decode cc pc = .ok (.putfield 325, 3)) (kk : ∀ (H1 : Heap) (locs1 : List Loc), wv g L (sF_ σ 1 33 i v) s H1 locs1 → W p l e R s m args below meth c H1 locs1 cells slots Q (F0 m (pc + 3) ls rest)) : W p l e R s m args below meth c H locs cells slots Q (F0 m pc ls (.int v :: .ref (L 1 i) :: rest)) :=
  ww_put hexec hb hts hown hW 1 i 33 hpr (obv_0 rfl) rfl in_X1 tyX1_ok nmX1 rfl (Nat.le_of_ble_eq_true rfl) (Or.inl (hts _ q396)) (fun _ h => h) rfl rfl rfl rfl hdg kk
theorem pf_X1_397 (hexec : p.tables.exec = Jvm.exec) (hb : c.code = cc) (hts : ∀ w ∈ lw_all, w.before args s = true) (hown : s.vm.findClass RX1 = some m.cls) (hW : wv g L σ s H locs) {i : Nat} (hpr : pr σ 1 i) {v : Int32} (hdg : decode cc pc = .ok (.putfield 397, 3)) (kk : ∀ (H1 : Heap) (locs1 : List Loc), wv g L (sF_ σ 1 36 i v) s H1 locs1 → W p l e R s m args below meth c H1 locs1 cells slots Q (F0 m (pc + 3) ls rest)) : W p l e R s m args below meth c H locs cells slots Q (F0 m pc ls (.int v :: .ref (L 1 i) :: rest)) :=
  ww_put hexec hb hts hown hW 1 i 36 hpr (obv_0 rfl) rfl in_X1 tyX1_ok nmX1 rfl (Nat.le_of_ble_eq_true rfl) (Or.inl (hts _ q399)) (fun _ h => h) rfl rfl rfl rfl hdg kk
end
theorem hd_X1_herd : yX1_herd.cls = RX1 ∧ yX1_herd.cls ≠ "java/lang/invoke/MethodHandle" ∧ yX1_herd.cls ≠ "java/lang/invoke/VarHandle" ∧ (parseMethodDescriptor yX1_herd.desc).map (fun d => d.parameters.length) = some 3 := by decide +kernel
theorem hd_X1_find : yX1_find.cls = RX1 ∧ yX1_find.cls ≠ "java/lang/invoke/MethodHandle" ∧ yX1_find.cls ≠ "java/lang/invoke/VarHandle" ∧ (parseMethodDescriptor yX1_find.desc).map (fun d => d.parameters.length) = some 2 := by decide +kernel
theorem hd_X1_wire : yX1_wire.cls = RX1 ∧ yX1_wire.cls ≠ "java/lang/invoke/MethodHandle" ∧ yX1_wire.cls ≠ "java/lang/invoke/VarHandle" ∧ (parseMethodDescriptor yX1_wire.desc).map (fun d => d.parameters.length) = some 3 := by decide +kernel
theorem hd_X1_trip : yX1_trip.cls = RX1 ∧ yX1_trip.cls ≠ "java/lang/invoke/MethodHandle" ∧ yX1_trip.cls ≠ "java/lang/invoke/VarHandle" ∧ (parseMethodDescriptor yX1_trip.desc).map (fun d => d.parameters.length) = some 2 := by decide +kernel
theorem hd_X10_init : yX10_init.cls = RX10 ∧ yX10_init.cls ≠ "java/lang/invoke/MethodHandle" ∧ yX10_init.cls ≠ "java/lang/invoke/VarHandle" ∧ (parseMethodDescriptor yX10_init.desc).map (fun d => d.parameters.length) = some 0 := by decide +kernel
theorem hd_X17_init : yX17_init.cls = RX17 ∧ yX17_init.cls ≠ "java/lang/invoke/MethodHandle" ∧ yX17_init.cls ≠ "java/lang/invoke/VarHandle" ∧ (parseMethodDescriptor yX17_init.desc).map (fun d => d.parameters.length) = some 3 := by decide +kernel
theorem hd_X19_init : yX19_init.cls = RX19 ∧ yX19_init.cls ≠ "java/lang/invoke/MethodHandle" ∧ yX19_init.cls ≠ "java/lang/invoke/VarHandle" ∧ (parseMethodDescriptor yX19_init.desc).map (fun d => d.parameters.length) = some 3 := by decide +kernel
theorem hd_X1_night : yX1_night.cls = RX1 ∧ yX1_night.cls ≠ "java/lang/invoke/MethodHandle" ∧ yX1_night.cls ≠ "java/lang/invoke/VarHandle" ∧ (parseMethodDescriptor yX1_night.desc).map (fun d => d.parameters.length) = some 0 := by decide +kernel
theorem hd_X1_rota : yX1_rota.cls = RX1 ∧ yX1_rota.cls ≠ "java/lang/invoke/MethodHandle" ∧ yX1_rota.cls ≠ "java/lang/invoke/VarHandle" ∧ (parseMethodDescriptor yX1_rota.desc).map (fun d => d.parameters.length) = some 4 := by decide +kernel
theorem hd_X1_loads : yX1_loads.cls = RX1 ∧ yX1_loads.cls ≠ "java/lang/invoke/MethodHandle" ∧ yX1_loads.cls ≠ "java/lang/invoke/VarHandle" ∧ (parseMethodDescriptor yX1_loads.desc).map (fun d => d.parameters.length) = some 2 := by decide +kernel
noncomputable def m_X1_herd_L42 (σ : st_T) (x1 : Int32) (x2 : Int32) (x3 : Int32) (t0 : Int32) : Option ((Nat ⊕ Int32) × st_T) := (m_X1_wrong t0).bind fun o3 => sm_ o3 (fun k4 => some ((.inl k4), (bX_ σ))) (fun v5 => if (gF_ σ 70 2 0) = (4 : Int32) then some ((.inr (-1 : Int32)), σ) else if 0 < gN_ σ 1 then if 0 < gN_ σ 70 then lt_ (nO_ σ 80 0 6) fun σ11 => ck2_ σ11 ((m_X16_init σ11 (gN_ σ 80) x1 x2 x3).bind fun σ18 => if cu_ σ11 ≤ cu_ σ18 ∧ su_ σ11 ≤ su_ σ18 then ck2_ σ18 (pif_ (rdy σ18) ((ad_ σ18 70 71 0 (gN_ σ 80)).bind fun σ27 => if cu_ σ18 ≤ cu_ σ27 ∧ su_ σ18 ≤ su_ σ27 then ck2_ σ27 (some ((.inr ((gF_ σ27 70 2 0) - (1 : Int32))), σ27)) else none)) else none) else none else none)
noncomputable def m_X1_herd_L37 (k42 : st_T → Int32 → Int32 → Int32 → Int32 → Option ((Nat ⊕ Int32) × st_T)) (σ : st_T) (x1 : Int32) (x2 : Int32) (x3 : Int32) : Option ((Nat ⊕ Int32) × st_T) := k42 σ x1 x2 x3 (1 : Int32)
noncomputable def m_X1_herd (σ : st_T) (a1 : Int32) (a2 : Int32) (a3 : Int32) : Option ((Nat ⊕ Int32) × st_T) := (m_X1_cell a1).bind fun o36 => sm_ o36 (fun k37 => some ((.inl k37), (bX_ σ))) (fun v38 => if inb a1 64 then if (gA_ σ 51 0 a1.toNatClampNeg) = (1 : Int32) then (m_X1_herd_L37 m_X1_herd_L42) σ a1 a2 a3 else (m_X1_in a2 (1 : Int32) (200 : Int32)).bind fun v43 => if v43 = 0 then (m_X1_herd_L37 m_X1_herd_L42) σ a1 a2 a3 else (m_X1_in a3 (1 : Int32) (3 : Int32)).bind fun v47 => if v47 = 0 then (m_X1_herd_L37 m_X1_herd_L42) σ a1 a2 a3 else m_X1_herd_L42 σ a1 a2 a3 (0 : Int32) else none)
noncomputable def m_X1_find_L21 (σ : st_T) (x2 : Int32) (ix3 : Nat) (t0 : Int32) : Option ((Nat ⊕ Int32) × st_T) := (m_X1_wrong t0).bind fun o3 => sm_ o3 (fun k4 => some ((.inl k4), (bX_ σ))) (fun v5 => if (gF_ σ 1 36 0) = (100 : Int32) then some ((.inr (-1 : Int32)), σ) else lt_ (sF_ σ 1 36 0 ((gF_ σ 1 36 0) + (1 : Int32))) fun σ7 => if ix3 < gN_ σ7 83 then if ix3 < gN_ σ7 78 then lt_ (nO_ σ7 84 0 2) fun σ14 => ck2_ σ14 ((m_X18_init σ14 (gN_ σ7 84) (gF_ σ14 1 33 0) x2).bind fun σ21 => pif_ (kp_ σ14 σ21) (pif_ (rdy σ21) ((ad_ σ21 78 79 ix3 (gN_ σ7 84)).bind fun σ26 => if cu_ σ21 ≤ cu_ σ26 ∧ su_ σ21 ≤ su_ σ26 then ck2_ σ26 (some ((.inr (gF_ σ26 78 2 ix3)), σ26)) else none))) else none else none)
noncomputable def m_X1_find (σ : st_T) (a1 : Int32) (a2 : Int32) : Option ((Nat ⊕ Int32) × st_T) := (m_X1_claimAt σ a1).bind fun o35 => sm_ o35 (fun k36 => some ((.inl k36), (bX_ σ))) (fun v37 => (m_X1_in a2 (0 : Int32) (100000 : Int32)).bind fun v40 => if v40 = 0 then m_X1_find_L21 σ a2 v37 (1 : Int32) else m_X1_find_L21 σ a2 v37 (0 : Int32))
noncomputable def m_X1_wire_L20 (σ : st_T) (x1 : Int32) (x2 : Int32) (x3 : Int32) (t0 : Int32) : Option ((Nat ⊕ Int32) × st_T) := (m_X1_wrong t0).bind fun o3 => sm_ o3 (fun k4 => some ((.inl k4), (bX_ σ))) (fun v5 => if (gF_ σ 74 2 0) = (10 : Int32) then some ((.inr (-1 : Int32)), σ) else lt_ (nO_ σ 85 0 3) fun σ9 => ck2_ σ9 ((m_X20_init σ9 (gN_ σ 85) x1 x2 x3).bind fun σ14 => pif_ (kp_ σ9 σ14) (pif_ (rdy σ14) ((ad_ σ14 74 75 0 (gN_ σ 85)).bind fun σ17 => if cu_ σ14 ≤ cu_ σ17 ∧ su_ σ14 ≤ su_ σ17 then ck2_ σ17 (some ((.inr ((gF_ σ17 74 2 0) - (1 : Int32))), σ17)) else none))))
noncomputable def m_X1_wire (σ : st_T) (a1 : Int32) (a2 : Int32) (a3 : Int32) : Option ((Nat ⊕ Int32) × st_T) := (m_X1_edge a1 a2).bind fun o24 => sm_ o24 (fun k25 => some ((.inl k25), (bX_ σ))) (fun v26 => (m_X1_in a3 (0 : Int32) (12 : Int32)).bind fun v29 => if v29 = 0 then m_X1_wire_L20 σ a1 a2 a3 (1 : Int32) else m_X1_wire_L20 σ a1 a2 a3 (0 : Int32))
noncomputable def m_X1_trip (σ : st_T) (a1 : Int32) (a2 : Int32) : Option ((Nat ⊕ Int32) × st_T) := (m_X1_wireAt σ a1).bind fun o3 => sm_ o3 (fun k4 => some ((.inl k4), (bX_ σ))) (fun v5 => (m_X1_hour a2).bind fun o8 => sm_ o8 (fun k9 => some ((.inl k9), (bX_ σ))) (fun v10 => if (gF_ σ 76 2 0) = (60 : Int32) then some ((.inr (-1 : Int32)), σ) else if v5 < gN_ σ 85 then if 0 < gN_ σ 1 then if 0 < gN_ σ 76 then lt_ (nO_ σ 86 0 2) fun σ18 => ck2_ σ18 ((m_X21_init σ18 (gN_ σ 86) v5 a2).bind fun σ26 => pif_ (kp_ σ18 σ26) (pif_ (rdy σ26) ((ad_ σ26 76 77 0 (gN_ σ 86)).bind fun σ32 => if cu_ σ26 ≤ cu_ σ32 ∧ su_ σ26 ≤ su_ σ32 then ck2_ σ32 (some ((.inr ((gF_ σ32 76 2 0) - (1 : Int32))), σ32)) else none))) else none else none else none))
noncomputable def m_X10_init_L527 : Nat → st_T → Int32 → Option st_T
  | 0, _, _ => none
  | n + 1, σ, x1 => if (64 : Int32) ≤ x1 then some σ else if 0 < gN_ σ 109 then if ¬ gP_ σ 109 (200 + 105) 0 = 0 then if 0 < gN_ σ 215 then if inb x1 64 then lt_ (sE_ σ 215 0 x1.toNatClampNeg (1 : Int32)) fun σ6 => (m_X10_init_L527 n) σ6 (x1 + (1 : Int32)) else none else none else none else none
noncomputable def m_X10_init (σ : st_T)  : Option st_T := if 0 < gN_ σ 109 then lt_ (nA_ σ 112 64) fun σ12 => ck1_ σ12 (if (gN_ σ 112) = 0 then lt_ (sM_ σ12 109 2 0 0) fun σ17 => lt_ (nA_ σ17 113 64) fun σ22 => ck1_ σ22 (if (gN_ σ17 113) = 0 then lt_ (sM_ σ22 109 3 0 0) fun σ28 => lt_ (nA_ σ28 114 64) fun σ34 => ck1_ σ34 (if (gN_ σ28 114) = 0 then lt_ (sM_ σ34 109 4 0 0) fun σ41 => lt_ (nA_ σ41 115 64) fun σ48 => ck1_ σ48 (if (gN_ σ41 115) = 0 then lt_ (sM_ σ48 109 5 0 0) fun σ56 => lt_ (nA_ σ56 116 64) fun σ64 => ck1_ σ64 (if (gN_ σ56 116) = 0 then lt_ (sM_ σ64 109 6 0 0) fun σ73 => lt_ (nA_ σ73 117 128) fun σ82 => ck1_ σ82 (if (gN_ σ73 117) = 0 then lt_ (sM_ σ82 109 7 0 0) fun σ92 => lt_ (nA_ σ92 118 128) fun σ102 => ck1_ σ102 (if (gN_ σ92 118) = 0 then lt_ (sM_ σ102 109 8 0 0) fun σ113 => lt_ (nA_ σ113 119 10) fun σ124 => ck1_ σ124 (if (gN_ σ113 119) = 0 then lt_ (sM_ σ124 109 9 0 0) fun σ136 => lt_ (nA_ σ136 127 400) fun σ148 => ck1_ σ148 (if (gN_ σ136 127) = 0 then lt_ (sM_ σ148 109 17 0 0) fun σ161 => lt_ (nA_ σ161 128 400) fun σ174 => ck1_ σ174 (if (gN_ σ161 128) = 0 then lt_ (sM_ σ174 109 18 0 0) fun σ188 => lt_ (nA_ σ188 129 400) fun σ202 => ck1_ σ202 (if (gN_ σ188 129) = 0 then lt_ (sM_ σ202 109 19 0 0) fun σ217 => lt_ (nA_ σ217 130 400) fun σ232 => ck1_ σ232 (if (gN_ σ217 130) = 0 then lt_ (sM_ σ232 109 20 0 0) fun σ248 => lt_ (nA_ σ248 131 400) fun σ264 => ck1_ σ264 (if (gN_ σ248 131) = 0 then lt_ (sM_ σ264 109 21 0 0) fun σ281 => lt_ (nA_ σ281 137 48) fun σ298 => ck1_ σ298 (if (gN_ σ281 137) = 0 then lt_ (sM_ σ298 109 27 0 0) fun σ316 => lt_ (nA_ σ316 138 4) fun σ334 => ck1_ σ334 (if (gN_ σ316 138) = 0 then lt_ (sM_ σ334 109 28 0 0) fun σ353 => lt_ (nA_ σ353 145 48) fun σ372 => ck1_ σ372 (if (gN_ σ353 145) = 0 then lt_ (sM_ σ372 109 35 0 0) fun σ392 => lt_ (nA_ σ392 146 4) fun σ412 => ck1_ σ412 (if (gN_ σ392 146) = 0 then lt_ (sM_ σ412 109 36 0 0) fun σ433 => lt_ (nA_ σ433 147 400) fun σ454 => ck1_ σ454 (if (gN_ σ433 147) = 0 then lt_ (sM_ σ454 109 37 0 0) fun σ476 => lt_ (nA_ σ476 148 400) fun σ498 => ck1_ σ498 (if (gN_ σ476 148) = 0 then lt_ (sM_ σ498 109 38 0 0) fun σ521 => lt_ (nA_ σ521 150 4) fun σ544 => ck1_ σ544 (if (gN_ σ521 150) = 0 then lt_ (sM_ σ544 109 40 0 0) fun σ568 => lt_ (nA_ σ568 151 4) fun σ592 => ck1_ σ592 (if (gN_ σ568 151) = 0 then lt_ (sM_ σ592 109 41 0 0) fun σ617 => lt_ (nA_ σ617 152 4) fun σ642 => ck1_ σ642 (if (gN_ σ617 152) = 0 then lt_ (sM_ σ642 109 42 0 0) fun σ668 => lt_ (nA_ σ668 153 64) fun σ694 => ck1_ σ694 (if (gN_ σ668 153) = 0 then lt_ (sM_ σ694 109 43 0 0) fun σ721 => lt_ (nA_ σ721 154 128) fun σ748 => ck1_ σ748 (if (gN_ σ721 154) = 0 then lt_ (sM_ σ748 109 44 0 0) fun σ776 => lt_ (nA_ σ776 155 64) fun σ804 => ck1_ σ804 (if (gN_ σ776 155) = 0 then lt_ (sM_ σ804 109 45 0 0) fun σ833 => lt_ (nA_ σ833 156 64) fun σ862 => ck1_ σ862 (if (gN_ σ833 156) = 0 then lt_ (sM_ σ862 109 46 0 0) fun σ892 => lt_ (nA_ σ892 157 64) fun σ922 => ck1_ σ922 (if (gN_ σ892 157) = 0 then lt_ (sM_ σ922 109 47 0 0) fun σ953 => lt_ (nA_ σ953 158 64) fun σ984 => ck1_ σ984 (if (gN_ σ953 158) = 0 then lt_ (sM_ σ984 109 48 0 0) fun σ1016 => lt_ (nA_ σ1016 163 10) fun σ1048 => ck1_ σ1048 (if (gN_ σ1016 163) = 0 then lt_ (sM_ σ1048 109 53 0 0) fun σ1081 => lt_ (nA_ σ1081 164 10) fun σ1114 => ck1_ σ1114 (if (gN_ σ1081 164) = 0 then lt_ (sM_ σ1114 109 54 0 0) fun σ1148 => lt_ (nA_ σ1148 165 3) fun σ1182 => ck1_ σ1182 (if (gN_ σ1148 165) = 0 then lt_ (sM_ σ1182 109 55 0 0) fun σ1217 => lt_ (nA_ σ1217 166 10) fun σ1252 => ck1_ σ1252 (if (gN_ σ1217 166) = 0 then lt_ (sM_ σ1252 109 56 0 0) fun σ1288 => lt_ (nA_ σ1288 171 12) fun σ1324 => ck1_ σ1324 (if (gN_ σ1288 171) = 0 then lt_ (sM_ σ1324 109 61 0 0) fun σ1361 => lt_ (nA_ σ1361 175 2) fun σ1398 => ck1_ σ1398 (if (gN_ σ1361 175) = 0 then lt_ (sM_ σ1398 109 65 0 0) fun σ1436 => lt_ (nA_ σ1436 176 10) fun σ1474 => ck1_ σ1474 (if (gN_ σ1436 176) = 0 then lt_ (sM_ σ1474 109 66 0 0) fun σ1513 => lt_ (nA_ σ1513 177 60) fun σ1552 => ck1_ σ1552 (if (gN_ σ1513 177) = 0 then lt_ (sM_ σ1552 109 67 0 0) fun σ1592 => lt_ (nA_ σ1592 178 60) fun σ1632 => ck1_ σ1632 (if (gN_ σ1592 178) = 0 then lt_ (sM_ σ1632 109 68 0 0) fun σ1673 => lt_ (nA_ σ1673 179 60) fun σ1714 => ck1_ σ1714 (if (gN_ σ1673 179) = 0 then lt_ (sM_ σ1714 109 69 0 0) fun σ1756 => lt_ (nA_ σ1756 182 3) fun σ1798 => ck1_ σ1798 (if (gN_ σ1756 182) = 0 then lt_ (sM_ σ1798 109 72 0 0) fun σ1841 => lt_ (nA_ σ1841 187 10000) fun σ1884 => ck1_ σ1884 (if (gN_ σ1841 187) = 0 then lt_ (sM_ σ1884 109 77 0 0) fun σ1928 => lt_ (nA_ σ1928 188 10) fun σ1972 => ck1_ σ1972 (if (gN_ σ1928 188) = 0 then lt_ (sM_ σ1972 109 78 0 0) fun σ2017 => lt_ (nA_ σ2017 189 6) fun σ2062 => ck1_ σ2062 (if (gN_ σ2017 189) = 0 then lt_ (sM_ σ2062 109 79 0 0) fun σ2108 => lt_ (nA_ σ2108 190 6) fun σ2154 => ck1_ σ2154 (if (gN_ σ2108 190) = 0 then lt_ (sM_ σ2154 109 80 0 0) fun σ2201 => lt_ (nA_ σ2201 193 160) fun σ2248 => ck1_ σ2248 (if (gN_ σ2201 193) = 0 then lt_ (sM_ σ2248 109 83 0 0) fun σ2296 => lt_ (nA_ σ2296 194 160) fun σ2344 => ck1_ σ2344 (if (gN_ σ2296 194) = 0 then lt_ (sM_ σ2344 109 84 0 0) fun σ2393 => lt_ (nA_ σ2393 195 160) fun σ2442 => ck1_ σ2442 (if (gN_ σ2393 195) = 0 then lt_ (sM_ σ2442 109 85 0 0) fun σ2492 => lt_ (nA_ σ2492 196 64) fun σ2542 => ck1_ σ2542 (if (gN_ σ2492 196) = 0 then lt_ (sM_ σ2542 109 86 0 0) fun σ2593 => lt_ (nA_ σ2593 197 4) fun σ2644 => ck1_ σ2644 (if (gN_ σ2593 197) = 0 then lt_ (sM_ σ2644 109 87 0 0) fun σ2696 => lt_ (nA_ σ2696 198 80) fun σ2748 => ck1_ σ2748 (if (gN_ σ2696 198) = 0 then lt_ (sM_ σ2748 109 88 0 0) fun σ2801 => lt_ (nA_ σ2801 199 80) fun σ2854 => ck1_ σ2854 (if (gN_ σ2801 199) = 0 then lt_ (sM_ σ2854 109 89 0 0) fun σ2908 => lt_ (nA_ σ2908 200 64) fun σ2962 => ck1_ σ2962 (if (gN_ σ2908 200) = 0 then lt_ (sM_ σ2962 109 90 0 0) fun σ3017 => lt_ (nA_ σ3017 201 64) fun σ3072 => ck1_ σ3072 (if (gN_ σ3017 201) = 0 then lt_ (sM_ σ3072 109 91 0 0) fun σ3128 => lt_ (nA_ σ3128 202 64) fun σ3184 => ck1_ σ3184 (if (gN_ σ3128 202) = 0 then lt_ (sM_ σ3184 109 92 0 0) fun σ3241 => lt_ (nA_ σ3241 206 10) fun σ3298 => ck1_ σ3298 (if (gN_ σ3241 206) = 0 then lt_ (sM_ σ3298 109 96 0 0) fun σ3356 => lt_ (nA_ σ3356 207 10) fun σ3414 => ck1_ σ3414 (if (gN_ σ3356 207) = 0 then lt_ (sM_ σ3414 109 97 0 0) fun σ3473 => lt_ (nA_ σ3473 208 10) fun σ3532 => ck1_ σ3532 (if (gN_ σ3473 208) = 0 then lt_ (sM_ σ3532 109 98 0 0) fun σ3592 => lt_ (nA_ σ3592 209 60) fun σ3652 => ck1_ σ3652 (if (gN_ σ3592 209) = 0 then lt_ (sM_ σ3652 109 99 0 0) fun σ3713 => lt_ (nA_ σ3713 210 60) fun σ3774 => ck1_ σ3774 (if (gN_ σ3713 210) = 0 then lt_ (sM_ σ3774 109 100 0 0) fun σ3836 => lt_ (nA_ σ3836 211 60) fun σ3898 => ck1_ σ3898 (if (gN_ σ3836 211) = 0 then lt_ (sM_ σ3898 109 101 0 0) fun σ3961 => lt_ (nA_ σ3961 212 60) fun σ4024 => ck1_ σ4024 (if (gN_ σ3961 212) = 0 then lt_ (sM_ σ4024 109 102 0 0) fun σ4088 => lt_ (nA_ σ4088 213 64) fun σ4152 => ck1_ σ4152 (if (gN_ σ4088 213) = 0 then lt_ (sM_ σ4152 109 103 0 0) fun σ4217 => lt_ (nA_ σ4217 214 64) fun σ4282 => ck1_ σ4282 (if (gN_ σ4217 214) = 0 then lt_ (sM_ σ4282 109 104 0 0) fun σ4348 => lt_ (nA_ σ4348 215 64) fun σ4414 => ck1_ σ4414 (if (gN_ σ4348 215) = 0 then lt_ (sM_ σ4414 109 105 0 0) fun σ4481 => lt_ (nA_ σ4481 216 64) fun σ4548 => ck1_ σ4548 (if (gN_ σ4481 216) = 0 then lt_ (sM_ σ4548 109 106 0 0) fun σ4616 => pif_ (rdy σ4616) ((m_X10_plain σ4616).bind fun σ4685 => pif_ (kp_ σ4616 σ4685) ((m_X10_init_L527 fu_) σ4685 (0 : Int32))) else none) else none) else none) else none) else none) else none) else none) else none) else none) else none) else none) else none) else none) else none) else none) else none) else none) else none) else none) else none) else none) else none) else none) else none) else none) else none) else none) else none) else none) else none) else none) else none) else none) else none) else none) else none) else none) else none) else none) else none) else none) else none) else none) else none) else none) else none) else none) else none) else none) else none) else none) else none) else none) else none) else none) else none) else none) else none) else none) else none) else none) else none) else none) else none) else none
noncomputable def m_X17_init (σ : st_T) (i0 : Nat) (a1 : Int32) (a2 : Int32) (a3 : Int32) : Option st_T := if i0 < gN_ σ 83 then lt_ (nO_ σ 78 0 3) fun σ3 => ck1_ σ3 (lt_ (sM_ (sF_ σ3 78 0 (gN_ σ 78) 0) 78 1 (gN_ σ 78) 0) fun σ7 => if (gN_ σ 78) = i0 then lt_ (sM_ σ7 83 2 i0 0) fun σ12 => lt_ (sF_ σ12 83 3 i0 (-1 : Int32)) fun σ16 => lt_ (sF_ σ16 83 0 i0 a1) fun σ20 => lt_ (sF_ σ20 83 1 i0 a2) fun σ24 => if ¬ gP_ σ24 83 (200 + 2) i0 = 0 then if i0 < gN_ σ24 78 then lt_ (nO_ σ24 84 0 2) fun σ31 => ck1_ σ31 ((m_X18_init σ31 (gN_ σ24 84) a2 a3).bind fun σ39 => pif_ (kp_ σ31 σ39) (if ¬ gP_ σ39 78 (200 + 1) i0 = 0 then (ad_ σ39 78 79 i0 (gN_ σ24 84)).bind fun σ46 => if cu_ σ39 ≤ cu_ σ46 ∧ su_ σ39 ≤ su_ σ46 then ck1_ σ46 (some σ46) else none else none)) else none else none else none) else none
noncomputable def m_X19_init_L116 (i0 : Nat) (k89 : st_T → Int32 → Int32 → Option st_T) (σ : st_T) (x5 : Int32) (t0 : Int32) (t1 : Int32) : Option st_T := k89 σ (t0 ||| t1) (x5 + (1 : Int32))
noncomputable def m_X19_init_L89 (i0 : Nat) : Nat → st_T → Int32 → Int32 → Option st_T
  | 0, _, _, _ => none
  | n + 1, σ, x4, x5 => if (10 : Int32) ≤ x5 then pif_ (rdy σ) ((m_X19_goes 8 σ i0 (0 : Int32) x4).bind fun σ4 => pif_ (kp_ σ σ4) (if i0 < gN_ σ 92 then some σ4 else none)) else if 0 < gN_ σ 1 then if ¬ gP_ σ 1 (200 + 25) 0 = 0 then if 0 < gN_ σ 35 then if inb x5 10 then if (gA_ σ 35 0 x5.toNatClampNeg) = 0 then (m_X19_init_L116 i0 (m_X19_init_L89 i0 n)) σ x5 x4 (0 : Int32) else (m_X19_init_L116 i0 (m_X19_init_L89 i0 n)) σ x5 x4 ((1 : Int32) <<< (x5 &&& 31)) else none else none else none else none
noncomputable def m_X19_init_L56 (i0 : Nat) : Nat → st_T → Int32 → Option st_T
  | 0, _, _ => none
  | n + 1, σ, x4 => if (10 : Int32) ≤ x4 then (m_X19_init_L89 i0 fu_) σ (0 : Int32) (0 : Int32) else if i0 < gN_ σ 92 then if ¬ gP_ σ 92 (200 + 4) i0 = 0 then if 0 < gN_ σ 1 then if ¬ gP_ σ 1 (200 + 13) 0 = 0 then if 0 < gN_ σ 23 then if inb x4 10 then if i0 < gN_ σ 95 then lt_ (sE_ σ 95 i0 x4.toNatClampNeg (gA_ σ 23 0 x4.toNatClampNeg)) fun σ20 => (m_X19_init_L56 i0 n) σ20 (x4 + (1 : Int32)) else none else none else none else none else none else none else none
noncomputable def m_X19_init (σ : st_T) (i0 : Nat) (a2 : Int32) (a3 : Int32) : Option st_T := if i0 < gN_ σ 92 then if 0 < gN_ σ 1 then lt_ (sM_ σ 92 9 i0 0) fun σ28 => lt_ (nA_ σ28 95 10) fun σ34 => ck1_ σ34 (if (gN_ σ28 95) = i0 then lt_ (sM_ σ34 92 4 i0 0) fun σ40 => lt_ (sF_ σ40 92 5 i0 (1000000000 : Int32)) fun σ45 => lt_ (sF_ σ45 92 6 i0 (1000000000 : Int32)) fun σ50 => lt_ (sF_ σ50 92 0 i0 a2) fun σ55 => lt_ (sF_ σ55 92 1 i0 a3) fun σ60 => if ¬ a2 < 0 ∧ a2.toNatClampNeg ≤ 1000 then lt_ (nA_ σ60 93 (a2.toNatClampNeg)) fun σ68 => ck1_ σ68 (if (gN_ σ60 93) = i0 then lt_ (sM_ σ68 92 2 i0 0) fun σ75 => if ¬ a2 < 0 ∧ a2.toNatClampNeg ≤ 1000 then lt_ (nA_ σ75 94 (a2.toNatClampNeg)) fun σ84 => ck1_ σ84 (if (gN_ σ75 94) = i0 then lt_ (sM_ σ84 92 3 i0 0) fun σ92 => (m_X19_init_L56 i0 fu_) σ92 (0 : Int32) else none) else none else none) else none else none) else none else none
noncomputable def m_X1_night_L265 (k180 : st_T → Int32 → Int32 → Option (Int32 × st_T)) (σ : st_T) (x1 : Int32) (x2 : Int32) (t1 : Int32) (t2 : Int32) (t3 : Int32) : Option (Int32 × st_T) := if inb t1 10 then lt_ (sE_ σ 23 0 t1.toNatClampNeg (t2 + t3)) fun σ2 => k180 σ2 x1 (x2 + (1 : Int32)) else none
noncomputable def m_X1_night_L233 (k180 : st_T → Int32 → Int32 → Option (Int32 × st_T)) (σ : st_T) (x1 : Int32) (x2 : Int32) : Option (Int32 × st_T) := (m_X1_isTold σ x2).bind fun v6 => if inb x2 10 then lt_ (sE_ σ 35 0 x2.toNatClampNeg (vp_nar .boolean v6)) fun σ8 => if (gA_ σ8 35 0 x2.toNatClampNeg) = 0 then (m_X1_night_L265 k180) σ8 x1 x2 x2 (gA_ σ8 23 0 x2.toNatClampNeg) (0 : Int32) else (m_X1_night_L265 k180) σ8 x1 x2 x2 (gA_ σ8 23 0 x2.toNatClampNeg) (1 : Int32) else none
noncomputable def m_X1_night_L180 : Nat → st_T → Int32 → Int32 → Option (Int32 × st_T)
  | 0, _, _, _ => none
  | n + 1, σ, x1, x2 => if (10 : Int32) ≤ x2 then lt_ (sF_ σ 1 34 0 (0 : Int32)) fun σ12 => lt_ (sF_ σ12 1 33 0 ((gF_ σ12 1 33 0) + (1 : Int32))) fun σ14 => some (x1, σ14) else if inb x2 10 then if (gA_ σ 32 2 x2.toNatClampNeg) ≤ 0 then (m_X1_night_L233 (m_X1_night_L180 n)) σ x1 x2 else if (60 : Int32) ≤ (gF_ σ 72 2 0) then (m_X1_night_L233 (m_X1_night_L180 n)) σ x1 x2 else if 0 < gN_ σ 1 then if 0 < gN_ σ 72 then lt_ (nO_ σ 83 0 4) fun σ23 => ck2_ σ23 (if ¬ gP_ σ23 1 (200 + 24) 0 = 0 then if 2 < gN_ σ23 32 then (m_X17_init σ23 (gN_ σ 83) x2 (gF_ σ23 1 33 0) (gA_ σ23 32 2 x2.toNatClampNeg)).bind fun σ32 => if cu_ σ23 ≤ cu_ σ32 ∧ su_ σ23 ≤ su_ σ32 then ck2_ σ32 (pif_ (rdy σ32) ((ad_ σ32 72 73 0 (gN_ σ 83)).bind fun σ42 => if cu_ σ32 ≤ cu_ σ42 ∧ su_ σ32 ≤ su_ σ42 then ck2_ σ42 ((m_X1_night_L233 (m_X1_night_L180 n)) σ42 x1 x2) else none)) else none else none else none) else none else none else none
noncomputable def m_X1_night_L150 (k112 : st_T → Int32 → Int32 → Int32 → Int32 → Option (Int32 × st_T)) (σ : st_T) (x1 : Int32) (x2 : Int32) (x4 : Int32) (t0 : Int32) (t1 : Int32) : Option (Int32 × st_T) := k112 σ x1 x2 (t0 + t1) (x4 + (1 : Int32))
noncomputable def m_X1_night_L112 (k77 : st_T → Int32 → Int32 → Option (Int32 × st_T)) : Nat → st_T → Int32 → Int32 → Int32 → Int32 → Option (Int32 × st_T)
  | 0, _, _, _, _, _ => none
  | n + 1, σ, x1, x2, x3, x4 => if (10 : Int32) ≤ x4 then if inb x2 2 then lt_ (sE_ σ 25 0 x2.toNatClampNeg ((gA_ σ 25 0 x2.toNatClampNeg) + (imax (0 : Int32) x3))) fun σ52 => k77 σ52 x1 (x2 + (1 : Int32)) else none else if inb x4 10 then if (gA_ σ 20 0 x4.toNatClampNeg) = x2 then (m_X1_night_L150 (m_X1_night_L112 k77 n)) σ x1 x2 x4 x3 (0 : Int32) else (m_X1_night_L150 (m_X1_night_L112 k77 n)) σ x1 x2 x4 x3 ((gA_ σ 32 2 x4.toNatClampNeg) - (gA_ σ 32 1 x4.toNatClampNeg)) else none
noncomputable def m_X1_night_L77 : Nat → st_T → Int32 → Int32 → Option (Int32 × st_T)
  | 0, _, _, _ => none
  | n + 1, σ, x1, x2 => if (2 : Int32) ≤ x2 then (m_X1_night_L180 fu_) σ x1 (0 : Int32) else (m_X2_like σ 1 2).bind fun σ59 => pif_ (kp_ σ σ59) ((m_X2_without σ59 1 x2).bind fun σ62 => pif_ (kp_ σ59 σ62) (bn2_ (m_X1_foretells σ62 (1 : Int32)) fun v65 σ66 => pif_ (kp_ σ62 σ66) ((m_X1_night_L112 (m_X1_night_L77 n) fu_) σ66 x1 x2 (0 : Int32) (0 : Int32))))
noncomputable def m_X1_night_L21 : Nat → st_T → Int32 → Option (Int32 × st_T)
  | 0, _, _ => none
  | n + 1, σ, x1 => if (10 : Int32) ≤ x1 then (m_X1_watch σ 0).bind fun σ70 => pif_ (kp_ σ σ70) (bn2_ (m_X1_comes σ70 0 (gF_ σ70 1 33 0)) fun v73 σ74 => pif_ (kp_ σ70 σ74) (if (gP_ σ74 1 31 0) < gN_ σ74 87 then (m_X2_wears σ74 0 (gF_ σ74 87 5 (gP_ σ74 1 31 0))).bind fun σ78 => pif_ (kp_ σ74 σ78) ((m_X1_night_L77 fu_) σ78 v73 (0 : Int32)) else none)) else if (gP_ σ 1 22 0) < 3 then if inb x1 10 then lt_ (sE_ σ 32 (gP_ σ 1 22 0) x1.toNatClampNeg (0 : Int32)) fun σ81 => (m_X1_night_L21 n) σ81 (x1 + (1 : Int32)) else none else none
noncomputable def m_X1_night (σ : st_T)  : Option (Int32 × st_T) := (m_X2_like σ 2 0).bind fun σ85 => pif_ (kp_ σ σ85) (lt_ (sP_ σ85 1 22 0 2) fun σ86 => (m_X1_night_L21 fu_) σ86 (0 : Int32))
noncomputable def m_X1_rota_L98 (σ : st_T)  : Option ((Nat ⊕ Int32) × st_T) := some ((.inr (-1 : Int32)), σ)
noncomputable def m_X1_rota_L92 (k43 : st_T → Int32 → Int32 → Nat → Int32 → Int32 → Option ((Nat ⊕ Int32) × st_T)) (σ : st_T) (x3 : Int32) (x4 : Int32) (ix5 : Nat) (x6 : Int32) (x7 : Int32) : Option ((Nat ⊕ Int32) × st_T) := k43 σ x3 x4 ix5 x6 (x7 + (1 : Int32))
noncomputable def m_X1_rota_L43 : Nat → st_T → Int32 → Int32 → Nat → Int32 → Int32 → Option ((Nat ⊕ Int32) × st_T)
  | 0, _, _, _, _, _, _ => none
  | n + 1, σ, x3, x4, ix5, x6, x7 => if (10 : Int32) ≤ x7 then m_X1_rota_L98 σ else if x4 < 0 then m_X1_rota_L98 σ else if ix5 < gN_ σ 92 then if (gF_ σ 92 7 ix5) = 0 then m_X1_rota_L98 σ else if ix5 < gN_ σ 94 then if inb x3 (gP_ σ 94 0 ix5) then if (((gA_ σ 94 ix5 x3.toNatClampNeg) >>> (x7 &&& 31)) &&& (1 : Int32)) = 0 then (m_X1_rota_L92 (m_X1_rota_L43 n)) σ x3 x4 ix5 x6 x7 else if x6 = 0 then some ((.inr x7), σ) else (m_X1_rota_L92 (m_X1_rota_L43 n)) σ x3 x4 ix5 (x6 + (-1 : Int32)) x7 else none else none else none
noncomputable def m_X1_rota_L21 (σ : st_T) (x1 : Int32) (x2 : Int32) (x3 : Int32) (x4 : Int32) (t0 : Int32) : Option ((Nat ⊕ Int32) × st_T) := (m_X1_wrong t0).bind fun o11 => sm_ o11 (fun k12 => some ((.inl k12), (bX_ σ))) (fun v13 => if 0 < gN_ σ 1 then lt_ (nO_ σ 92 0 10) fun σ16 => ck2_ σ16 ((m_X19_init σ16 (gN_ σ 92) x1 x2).bind fun σ22 => if cu_ σ16 ≤ cu_ σ22 ∧ su_ σ16 ≤ su_ σ22 then ck2_ σ22 (pif_ (rdy σ22) ((m_X1_rota_L43 fu_) σ22 x3 x4 (gN_ σ 92) x4 (0 : Int32))) else none) else none)
noncomputable def m_X1_rota (σ : st_T) (a1 : Int32) (a2 : Int32) (a3 : Int32) (a4 : Int32) : Option ((Nat ⊕ Int32) × st_T) := (m_X1_nights a1 a2).bind fun o29 => sm_ o29 (fun k30 => some ((.inl k30), (bX_ σ))) (fun v31 => (m_X1_in a3 (0 : Int32) (a1 - (1 : Int32))).bind fun v34 => if v34 = 0 then m_X1_rota_L21 σ a1 a2 a3 a4 (1 : Int32) else m_X1_rota_L21 σ a1 a2 a3 a4 (0 : Int32))
noncomputable def m_X1_loads_L31 (σ : st_T) (t0 : Int32) : Option ((Nat ⊕ Int32) × st_T) := some ((.inr t0), σ)
noncomputable def m_X1_loads (σ : st_T) (a1 : Int32) (a2 : Int32) : Option ((Nat ⊕ Int32) × st_T) := (m_X1_nights a1 a2).bind fun o3 => sm_ o3 (fun k4 => some ((.inl k4), (bX_ σ))) (fun v5 => if 0 < gN_ σ 1 then lt_ (nO_ σ 92 0 10) fun σ8 => ck2_ σ8 ((m_X19_init σ8 (gN_ σ 92) a1 a2).bind fun σ14 => if cu_ σ8 ≤ cu_ σ14 ∧ su_ σ8 ≤ su_ σ14 then ck2_ σ14 (pif_ (rdy σ14) (if (gF_ σ14 92 7 (gN_ σ 92)) = 0 then m_X1_loads_L31 σ14 (-1 : Int32) else m_X1_loads_L31 σ14 (gF_ σ14 92 6 (gN_ σ 92)))) else none) else none)
set_option maxHeartbeats 4000000 in
theorem c_X1_herd (g : wg_T) (hgm : gm g = true) (l : Launch) (L : ly_T) (σ : st_T) (a1 : Int32) (a2 : Int32) (a3 : Int32) (hst : l.stackTraces = false) (o_ : Nat ⊕ Int32) (σ_ : st_T) (hs : m_X1_herd σ a1 a2 a3 = some (o_, σ_)) : YI g l yX1_herd (ws_ yX1_herd cX1_herd 4 (some .int)) 16 500 [.ref (L 1 0), .int a1, .int a2, .int a3] L σ o_ σ_ := by
  refine xbody.met (by decide) (Nat.le_of_ble_eq_true rfl) ?_
  intro p e s m args below meth c ls hx hb hr hml hlocks hts hown hnm hout hW hl
  have hown : s.vm.findClass RX1 = some m.cls := hown
  obtain ⟨L0, hL0⟩ : ∃ L0, L0 = L := ⟨_, rfl⟩
  obtain ⟨σ0, hσ0⟩ : ∃ σ0, σ0 = σ := ⟨_, rfl⟩
  rw [← hσ0, ← hL0]
  have hx0 : lext L0 σ0 L σ := by rw [hL0, hσ0]; exact lext.refl
  have hcs : bk σ0 σ 0 0 := bk.start hσ0
  have hrm : 0 ≤ cu_ σ_ - cu_ σ0 ∧ 0 ≤ su_ σ_ - su_ σ0 := ⟨Nat.zero_le _, Nat.zero_le _⟩
  have hl : lv_has ls 4 [(0, .ref (L 1 0)), (1, .int a1), (2, .int a2), (3, .int a3)] := hl
  unfold m_X1_herd at hs
  have hL42 : ∀ (L : ly_T) (σ : st_T) (x1 : Int32) (x2 : Int32) (x3 : Int32) (t0 : Int32) (H : Heap) (locs : List Loc) (cells slots : Nat) (ls : Array Slot), lext L0 σ0 L σ → bk σ0 σ cells slots → (cells ≤ cu_ σ_ - cu_ σ0 ∧ slots ≤ su_ σ_ - su_ σ0) → wv g L σ s H locs → lv_has ls 4 [(0, .ref (L 1 0)), (1, .int x1), (2, .int x2), (3, .int x3)] → m_X1_herd_L42 σ x1 x2 x3 t0 = some (o_, σ_) → W p l e (wrA 16 500 σ0 σ_) s m args below meth c H locs cells slots (vx_MQ below (yXi g L0 σ0 o_ σ_) (yX g L0 σ0 o_ σ_) args s (cu_ σ_ - cu_ σ0) (su_ σ_ - su_ σ0) (fun q => gz g ≤ q)) (F0 m 42 ls [.int t0]) := by
    intro L σ x1 x2 x3 t0 H locs cells slots ls hx0 hcs hrm hW hl hs
    unfold m_X1_herd_L42 at hs
    obtain ⟨o3, hc1, hs⟩ := ww_bnd hs
    rcases o3 with k4 | v5
    · have hs := ww_sL hs
      have hs := ww_S hs
      have e1 : o_ = .inl k4 := congrArg Prod.fst hs
      have e2 : σ_ = bX_ σ := congrArg Prod.snd hs
      subst e1
      have hrmx := hcs.room (σ1 := bX_ σ) (σ_ := σ_) (a := 1) (b := 6) rfl rfl (by rw [e2]; exact ⟨Nat.le_refl _, Nat.le_refl _⟩)
      exact wz_prop (vx_runS (As := [.int t0]) (rest := []) ⟨hx, hb, hml, hown, hts⟩ (c_X1_wrong g hgm l L σ t0 hst _ hc1) (va_cwS 1 hts (lw_S q848 q849 q111 q850) rfl rfl rfl hd_X1_wrong.2 ⟨(Nat.le_of_ble_eq_true rfl), (Nat.le_of_ble_eq_true rfl)⟩) (ww_preS hW) rfl rfl hl.1 rfl (lv_room (Nat.le_of_ble_eq_true rfl)) dX1_herd_42 hrmx) no_v hx0 hW hlocks hout rfl e2 hrmx
    · have hs := ww_sR hs
      refine ww_xv0 (vx_runS (As := [.int t0]) (rest := []) ⟨hx, hb, hml, hown, hts⟩ (c_X1_wrong g hgm l L σ t0 hst _ hc1) (va_cwS 1 hts (lw_S q848 q849 q111 q850) rfl rfl rfl hd_X1_wrong.2 ⟨(Nat.le_of_ble_eq_true rfl), (Nat.le_of_ble_eq_true rfl)⟩) (ww_preS hW) rfl rfl hl.1 rfl (lv_room (Nat.le_of_ble_eq_true rfl)) dX1_herd_42 hrm) hW (fun H locs hW => ?_)
      refine lv_aload_n hx hb dX1_herd_45 rfl (lv_at hl 0 rfl) ?_
      refine gf_X1_71 hx hb hts hown hW (pr_st (hW.rd hgm) (Nat.le_of_ble_eq_true rfl)) (hW.fl hgm (pr_st (hW.rd hgm) (Nat.le_of_ble_eq_true rfl)) 6 (by decide) rfl (by decide)) dX1_herd_46 ?_
      refine ww_ci (va_runV (As := []) (rest := []) ⟨hx, hb, hml, hown, hts⟩ (c_AL_size g hgm l L σ 70 0 71 rfl rfl (pr_st (hW.rd hgm) (Nat.le_of_ble_eq_true rfl))) (cwV 0 hts (lw_V q514 q515 q516 q117 q517) rfl rfl rfl hd_J2_size ⟨(Nat.le_of_ble_eq_true rfl), (Nat.le_of_ble_eq_true rfl)⟩) (ww_preV hW (pr_st (hW.rd hgm) (Nat.le_of_ble_eq_true rfl)) (obv_0 rfl) rfl) rfl rfl hl.1 rfl (lv_room (Nat.le_of_ble_eq_true rfl)) dX1_herd_49 hrm) hW (fun H locs hW => ?_)
      refine lv_iconst (v := 4) hx hb dX1_herd_52 (by decide) ?_
      refine lv_icmp_ne (tgt := 58) hx hb dX1_herd_53 (by decide) (fun hc6 => ?_) (fun hc6 => ?_)
      · have hs := ww_F hs hc6
        refine lv_aload_n hx hb dX1_herd_58 rfl (lv_at hl 0 rfl) ?_
        refine gf_X1_71 hx hb hts hown hW (pr_st (hW.rd hgm) (Nat.le_of_ble_eq_true rfl)) (hW.fl hgm (pr_st (hW.rd hgm) (Nat.le_of_ble_eq_true rfl)) 6 (by decide) rfl (by decide)) dX1_herd_59 ?_
        have hW := hW.raw
        obtain ⟨hc7, hs⟩ := ww_chk hs
        have hp8 : pr σ 1 0 := (pr_dy hc7 rfl rfl)
        obtain ⟨hc9, hs⟩ := ww_chk hs
        have hp10 : pr σ 70 0 := (pr_dy hc9 rfl rfl)
        obtain ⟨σ11, e12, hs⟩ := ww_let hs
        obtain ⟨hs, hck⟩ := ww_ck2 hs
        have hrm1 := hcs.room (σ1 := σ11) (a := 1) (b := 6) (by rw [e12]; rfl) (by rw [e12]; rfl) hck
        refine ww_newo (ci := 5) hx hb hts in_X16 tyX16 tyX16_ok hown (hts _ q532) (hts _ q1154) (hts _ q142) hW 80 0 (obv_0 rfl) rfl df_80 (Nat.le_of_ble_eq_true rfl) rfl sole_80 (Or.inl rfl) (Or.inl rfl) hrm1.1 hrm1.2 dX1_herd_62 (fun H L hx1 hW => ?_)
        rw [← e12] at hx1 hW
        have hcs := hcs.more (σ1 := σ11) (a := 1) (b := 6) (by rw [e12]; rfl) (by rw [e12]; rfl)
        have hrm := hrm1
        have hc13 : 0 < gN_ σ11 1 := Nat.lt_of_lt_of_le hc7 (hx1.2.1 1)
        have hc14 : 0 < gN_ σ11 70 := Nat.lt_of_lt_of_le hc9 (hx1.2.1 70)
        have hc15 : gN_ σ 80 < gN_ σ11 80 := by rw [e12]; exact nO_lt rfl
        rw [show ow_ 80 = 80 from rfl]
        have hl : lv_has ls 4 [(0, .ref (L 1 0)), (1, .int x1), (2, .int x2), (3, .int x3)] := by rw [hx1.at hp8 (by decide)]; exact hl
        refine ww_stk (st1 := [.ref (L 80 (gN_ σ 80)), .ref (L 70 0)]) (by rw [hx1.at hp10 (by decide)]) ?_
        have hx0 := hx0.trans hx1
        refine lv_dup hx hb dX1_herd_65 rfl ?_
        refine lv_iload_n hx hb dX1_herd_66 rfl (lv_at hl 1 rfl) ?_
        refine lv_iload_n hx hb dX1_herd_67 rfl (lv_at hl 2 rfl) ?_
        refine lv_iload_n hx hb dX1_herd_68 rfl (lv_at hl 3 rfl) ?_
        obtain ⟨σ18, hc16, hs⟩ := ww_bnd hs
        have hl : lv_has ls 4 [(0, .ref (L 1 0))] := lv_sub hl [0] rfl
        have hp19 : pr σ11 1 0 := (pr_dy hc13 rfl rfl)
        have hp20 : pr σ11 70 0 := (pr_dy hc14 rfl rfl)
        have hp21 : pr σ11 80 (gN_ σ 80) := (pr_dy hc15 rfl rfl)
        obtain ⟨hc22, hs⟩ := ww_chk hs
        obtain ⟨hs, hck⟩ := ww_ck2 hs
        have hrm1 := hcs.roomC hc22 hck
        refine wa_cv (va_runI (As := [.int x1, .int x2, .int x3]) (rest := [.ref (L 80 (gN_ σ 80)), .ref (L 70 0)]) ⟨hx, hb, hml, hown, hts⟩ (c_X16_init (rw_ g) rfl l L σ11 (gN_ σ 80) x1 x2 x3 _ hc16) (cwI 3 hts (lw_meth q1157) rfl rfl rfl (hts _ q142) (hts _ q1155) (hts _ q1156) rfl hd_X16_init.2 ⟨(Nat.le_of_ble_eq_true rfl), (Nat.le_of_ble_eq_true rfl)⟩) (ww_preS hW) rfl rfl hl.1 rfl (lv_room (Nat.le_of_ble_eq_true rfl)) dX1_herd_69 hrm1) hW (fun H locs L hx1 hW => ?_)
        have hc23 : 0 < gN_ σ18 1 := Nat.lt_of_lt_of_le hc13 (hx1.2.1 1)
        have hc24 : 0 < gN_ σ18 70 := Nat.lt_of_lt_of_le hc14 (hx1.2.1 70)
        have hc25 : (gN_ σ 80) < gN_ σ18 80 := Nat.lt_of_lt_of_le hc15 (hx1.2.1 80)
        have hcs := hcs.call hc22
        have hrm := hrm1
        have hl : lv_has ls 4 [(0, .ref (L 1 0))] := by rw [hx1.at hp19 (by decide)]; exact hl
        refine ww_stk (st1 := [.ref (L 80 (gN_ σ 80)), .ref (L 70 0)]) (by rw [hx1.at hp20 (by decide), hx1.at hp21 (by decide)]) ?_
        have hx0 := hx0.trans hx1
        obtain ⟨hrdy, hs⟩ := ww_pif hs
        have hW := hW.ready hrdy
        have hp26 : gP_ σ18 70 (200 + 1) 0 ≠ 0 := (hW.fl hgm (pr_st (hW.rd hgm) (Nat.le_of_ble_eq_true rfl)) 1 (by decide) rfl (by decide))
        obtain ⟨σ27, hc28, hs⟩ := ww_bnd hs
        have hp29 : pr σ18 1 0 := (pr_st (hW.rd hgm) (Nat.le_of_ble_eq_true rfl))
        obtain ⟨hc30, hs⟩ := ww_chk hs
        obtain ⟨hs, hck⟩ := ww_ck2 hs
        have hrm1 := hcs.roomC hc30 hck
        refine wa_ci (va_runV (As := [.ref (L 80 (gN_ σ 80))]) (rest := []) ⟨hx, hb, hml, hown, hts⟩ (c_AL_add g l L σ18 σ27 70 0 71 80 (gN_ σ 80) lst_70 eq_80 rfl (pr_st (hW.rd hgm) (Nat.le_of_ble_eq_true rfl)) (pr_dy hc25 rfl rfl) hp26 hc28 hc30) (cwV 1 hts (lw_V q713 q630 q631 q117 q632) rfl rfl rfl hd_J2_add ⟨(Nat.le_of_ble_eq_true rfl), (Nat.le_of_ble_eq_true rfl)⟩) (ww_preV hW (pr_st (hW.rd hgm) (Nat.le_of_ble_eq_true rfl)) (obv_0 rfl) rfl) rfl rfl hl.1 rfl (lv_room (Nat.le_of_ble_eq_true rfl)) dX1_herd_72 hrm1) hW (fun H locs L hx1 hW => ?_)
        have hc31 : 0 < gN_ σ27 1 := Nat.lt_of_lt_of_le hc23 (hx1.2.1 1)
        have hc32 : 0 < gN_ σ27 70 := Nat.lt_of_lt_of_le hc24 (hx1.2.1 70)
        have hc33 : (gN_ σ 80) < gN_ σ27 80 := Nat.lt_of_lt_of_le hc25 (hx1.2.1 80)
        have hcs := hcs.call hc30
        have hrm := hrm1
        have hl : lv_has ls 4 [(0, .ref (L 1 0))] := by rw [hx1.at hp29 (by decide)]; exact hl
        have hx0 := hx0.trans hx1
        refine lv_pop hx hb dX1_herd_75 rfl ?_
        refine lv_aload_n hx hb dX1_herd_76 rfl (lv_at hl 0 rfl) ?_
        refine gf_X1_71 hx hb hts hown hW (pr_st (hW.rd hgm) (Nat.le_of_ble_eq_true rfl)) (hW.fl hgm (pr_st (hW.rd hgm) (Nat.le_of_ble_eq_true rfl)) 6 (by decide) rfl (by decide)) dX1_herd_77 ?_
        refine ww_ci (va_runV (As := []) (rest := []) ⟨hx, hb, hml, hown, hts⟩ (c_AL_size g hgm l L σ27 70 0 71 rfl rfl (pr_st (hW.rd hgm) (Nat.le_of_ble_eq_true rfl))) (cwV 0 hts (lw_V q514 q515 q516 q117 q517) rfl rfl rfl hd_J2_size ⟨(Nat.le_of_ble_eq_true rfl), (Nat.le_of_ble_eq_true rfl)⟩) (ww_preV hW (pr_st (hW.rd hgm) (Nat.le_of_ble_eq_true rfl)) (obv_0 rfl) rfl) rfl rfl hl.1 rfl (lv_room (Nat.le_of_ble_eq_true rfl)) dX1_herd_80 hrm) hW (fun H locs hW => ?_)
        refine lv_iconst (v := 1) hx hb dX1_herd_83 (by decide) ?_
        refine lv_isub hx hb dX1_herd_84 ?_
        have hs := ww_S hs
        exact wz_i hx hb hr hlocks hx0 hcs hW (congrArg Prod.fst hs) (congrArg Prod.snd hs) dX1_herd_85
      · have hs := ww_T hs hc6
        refine lv_iconst (v := (-1)) hx hb dX1_herd_56 (by decide) ?_
        have hs := ww_S hs
        exact wz_i hx hb hr hlocks hx0 hcs hW (congrArg Prod.fst hs) (congrArg Prod.snd hs) dX1_herd_57
  have hL37 : ∀ (L : ly_T) (σ : st_T) (x1 : Int32) (x2 : Int32) (x3 : Int32) (H : Heap) (locs : List Loc) (cells slots : Nat) (ls : Array Slot), lext L0 σ0 L σ → bk σ0 σ cells slots → (cells ≤ cu_ σ_ - cu_ σ0 ∧ slots ≤ su_ σ_ - su_ σ0) → wv g L σ s H locs → lv_has ls 4 [(0, .ref (L 1 0)), (1, .int x1), (2, .int x2), (3, .int x3)] → (m_X1_herd_L37 m_X1_herd_L42) σ x1 x2 x3 = some (o_, σ_) → W p l e (wrA 16 500 σ0 σ_) s m args below meth c H locs cells slots (vx_MQ below (yXi g L0 σ0 o_ σ_) (yX g L0 σ0 o_ σ_) args s (cu_ σ_ - cu_ σ0) (su_ σ_ - su_ σ0) (fun q => gz g ≤ q)) (F0 m 37 ls []) := by
    intro L σ x1 x2 x3 H locs cells slots ls hx0 hcs hrm hW hl hs
    unfold m_X1_herd_L37 at hs
    refine lv_iconst (v := 1) hx hb dX1_herd_37 (by decide) ?_
    refine lv_goto (tgt := 42) hx hb dX1_herd_38 (by decide) ?_
    exact hL42 L σ x1 x2 x3 (1 : Int32) _ _ _ _ ls hx0 hcs hrm hW (lv_sub hl [0, 1, 2, 3] rfl) hs
  refine lv_iload_n hx hb dX1_herd_0 rfl (lv_at hl 1 rfl) ?_
  obtain ⟨o36, hc34, hs⟩ := ww_bnd hs
  rcases o36 with k37 | v38
  · have hs := ww_sL hs
    have hs := ww_S hs
    have e1 : o_ = .inl k37 := congrArg Prod.fst hs
    have e2 : σ_ = bX_ σ := congrArg Prod.snd hs
    subst e1
    have hrmx := hcs.room (σ1 := bX_ σ) (σ_ := σ_) (a := 1) (b := 6) rfl rfl (by rw [e2]; exact ⟨Nat.le_refl _, Nat.le_refl _⟩)
    exact wz_prop (vx_runS (As := [.int a1]) (rest := []) ⟨hx, hb, hml, hown, hts⟩ (c_X1_cell g hgm l L σ a1 hst _ hc34) (va_cwS 1 hts (lw_S q821 q822 q111 q823) rfl rfl rfl hd_X1_cell.2 ⟨(Nat.le_of_ble_eq_true rfl), (Nat.le_of_ble_eq_true rfl)⟩) (ww_preS hW) rfl rfl hl.1 rfl (lv_room (Nat.le_of_ble_eq_true rfl)) dX1_herd_1 hrmx) no_v hx0 hW hlocks hout rfl e2 hrmx
  · have hs := ww_sR hs
    refine ww_xv0 (vx_runS (As := [.int a1]) (rest := []) ⟨hx, hb, hml, hown, hts⟩ (c_X1_cell g hgm l L σ a1 hst _ hc34) (va_cwS 1 hts (lw_S q821 q822 q111 q823) rfl rfl rfl hd_X1_cell.2 ⟨(Nat.le_of_ble_eq_true rfl), (Nat.le_of_ble_eq_true rfl)⟩) (ww_preS hW) rfl rfl hl.1 rfl (lv_room (Nat.le_of_ble_eq_true rfl)) dX1_herd_1 hrm) hW (fun H locs hW => ?_)
    refine lv_aload_n hx hb dX1_herd_4 rfl (lv_at hl 0 rfl) ?_
    refine gf_X1_44 hx hb hts hown hW (pr_st (hW.rd hgm) (Nat.le_of_ble_eq_true rfl)) (hW.fl hgm (pr_st (hW.rd hgm) (Nat.le_of_ble_eq_true rfl)) 1 (by decide) rfl (by decide)) dX1_herd_5 ?_
    refine gf_X1_183 hx hb hts hown hW (pr_st (hW.rd hgm) (Nat.le_of_ble_eq_true rfl)) (hW.fl hgm (pr_st (hW.rd hgm) (Nat.le_of_ble_eq_true rfl)) 0 (by decide) rfl (by decide)) dX1_herd_8 ?_
    refine lv_iload_n hx hb dX1_herd_11 rfl (lv_at hl 1 rfl) ?_
    obtain ⟨hc39, hs⟩ := ww_chk hs
    refine ww_iald hx hb hW 51 0 (pr_st (hW.rd hgm) (Nat.le_of_ble_eq_true rfl)) rfl hc39 dX1_herd_12 ?_
    refine lv_iconst (v := 1) hx hb dX1_herd_13 (by decide) ?_
    refine lv_icmp_eq (tgt := 37) hx hb dX1_herd_14 (by decide) (fun hc40 => ?_) (fun hc40 => ?_)
    · have hs := ww_T hs hc40
      exact hL37 L σ a1 a2 a3 _ _ _ _ ls hx0 hcs hrm hW (lv_sub hl [0, 1, 2, 3] rfl) hs
    · have hs := ww_F hs hc40
      refine lv_iload_n hx hb dX1_herd_17 rfl (lv_at hl 2 rfl) ?_
      refine lv_iconst (v := 1) hx hb dX1_herd_18 (by decide) ?_
      refine lv_sipush (v := 200) hx hb dX1_herd_19 (by decide) ?_
      obtain ⟨v43, hc41, hs⟩ := ww_bnd hs
      refine ww_ci (va_runS (As := [.int a2, .int (1 : Int32), .int (200 : Int32)]) (rest := []) ⟨hx, hb, hml, hown, hts⟩ (c_X1_in g hgm l L σ a2 (1 : Int32) (200 : Int32) _ hc41) (va_cwS 3 hts (lw_S q824 q825 q111 q826) rfl rfl rfl hd_X1_in.2 ⟨(Nat.le_of_ble_eq_true rfl), (Nat.le_of_ble_eq_true rfl)⟩) (ww_preS hW) rfl rfl hl.1 rfl (lv_room (Nat.le_of_ble_eq_true rfl)) dX1_herd_22 hrm) hW (fun H locs hW => ?_)
      refine lv_if_eq (tgt := 37) hx hb dX1_herd_25 (by decide) (fun hc44 => ?_) (fun hc44 => ?_)
      · have hs := ww_T hs hc44
        exact hL37 L σ a1 a2 a3 _ _ _ _ ls hx0 hcs hrm hW (lv_sub hl [0, 1, 2, 3] rfl) hs
      · have hs := ww_F hs hc44
        refine lv_iload_n hx hb dX1_herd_28 rfl (lv_at hl 3 rfl) ?_
        refine lv_iconst (v := 1) hx hb dX1_herd_29 (by decide) ?_
        refine lv_iconst (v := 3) hx hb dX1_herd_30 (by decide) ?_
        obtain ⟨v47, hc45, hs⟩ := ww_bnd hs
        refine ww_ci (va_runS (As := [.int a3, .int (1 : Int32), .int (3 : Int32)]) (rest := []) ⟨hx, hb, hml, hown, hts⟩ (c_X1_in g hgm l L σ a3 (1 : Int32) (3 : Int32) _ hc45) (va_cwS 3 hts (lw_S q824 q825 q111 q826) rfl rfl rfl hd_X1_in.2 ⟨(Nat.le_of_ble_eq_true rfl), (Nat.le_of_ble_eq_true rfl)⟩) (ww_preS hW) rfl rfl hl.1 rfl (lv_room (Nat.le_of_ble_eq_true rfl)) dX1_herd_31 hrm) hW (fun H locs hW => ?_)
        refine lv_if_ne (tgt := 41) hx hb dX1_herd_34 (by decide) (fun hc48 => ?_) (fun hc48 => ?_)
        · have hs := ww_F hs hc48
          refine lv_iconst (v := 0) hx hb dX1_herd_41 (by decide) ?_
          exact hL42 L σ a1 a2 a3 (0 : Int32) _ _ _ _ ls hx0 hcs hrm hW (lv_sub hl [0, 1, 2, 3] rfl) hs
        · have hs := ww_T hs hc48
          exact hL37 L σ a1 a2 a3 _ _ _ _ ls hx0 hcs hrm hW (lv_sub hl [0, 1, 2, 3] rfl) hs
set_option maxHeartbeats 4000000 in
theorem c_X1_find (g : wg_T) (hgm : gm g = true) (l : Launch) (L : ly_T) (σ : st_T) (a1 : Int32) (a2 : Int32) (hst : l.stackTraces = false) (o_ : Nat ⊕ Int32) (σ_ : st_T) (hs : m_X1_find σ a1 a2 = some (o_, σ_)) : YI g l yX1_find (ws_ yX1_find cX1_find 4 (some .int)) 16 500 [.ref (L 1 0), .int a1, .int a2] L σ o_ σ_ := by
  refine xbody.met (by decide) (Nat.le_of_ble_eq_true rfl) ?_
  intro p e s m args below meth c ls hx hb hr hml hlocks hts hown hnm hout hW hl
  have hown : s.vm.findClass RX1 = some m.cls := hown
  obtain ⟨L0, hL0⟩ : ∃ L0, L0 = L := ⟨_, rfl⟩
  obtain ⟨σ0, hσ0⟩ : ∃ σ0, σ0 = σ := ⟨_, rfl⟩
  rw [← hσ0, ← hL0]
  have hx0 : lext L0 σ0 L σ := by rw [hL0, hσ0]; exact lext.refl
  have hcs : bk σ0 σ 0 0 := bk.start hσ0
  have hrm : 0 ≤ cu_ σ_ - cu_ σ0 ∧ 0 ≤ su_ σ_ - su_ σ0 := ⟨Nat.zero_le _, Nat.zero_le _⟩
  have hl : lv_has ls 4 [(0, .ref (L 1 0)), (1, .int a1), (2, .int a2)] := hl
  unfold m_X1_find at hs
  have hL21 : ∀ (L : ly_T) (σ : st_T) (x2 : Int32) (ix3 : Nat) (t0 : Int32) (H : Heap) (locs : List Loc) (cells slots : Nat) (ls : Array Slot), lext L0 σ0 L σ → bk σ0 σ cells slots → (cells ≤ cu_ σ_ - cu_ σ0 ∧ slots ≤ su_ σ_ - su_ σ0) → wv g L σ s H locs → lv_has ls 4 [(0, .ref (L 1 0)), (2, .int x2), (3, .ref (L 83 ix3))] → m_X1_find_L21 σ x2 ix3 t0 = some (o_, σ_) → W p l e (wrA 16 500 σ0 σ_) s m args below meth c H locs cells slots (vx_MQ below (yXi g L0 σ0 o_ σ_) (yX g L0 σ0 o_ σ_) args s (cu_ σ_ - cu_ σ0) (su_ σ_ - su_ σ0) (fun q => gz g ≤ q)) (F0 m 21 ls [.int t0]) := by
    intro L σ x2 ix3 t0 H locs cells slots ls hx0 hcs hrm hW hl hs
    unfold m_X1_find_L21 at hs
    obtain ⟨o3, hc1, hs⟩ := ww_bnd hs
    rcases o3 with k4 | v5
    · have hs := ww_sL hs
      have hs := ww_S hs
      have e1 : o_ = .inl k4 := congrArg Prod.fst hs
      have e2 : σ_ = bX_ σ := congrArg Prod.snd hs
      subst e1
      have hrmx := hcs.room (σ1 := bX_ σ) (σ_ := σ_) (a := 1) (b := 6) rfl rfl (by rw [e2]; exact ⟨Nat.le_refl _, Nat.le_refl _⟩)
      exact wz_prop (vx_runS (As := [.int t0]) (rest := []) ⟨hx, hb, hml, hown, hts⟩ (c_X1_wrong g hgm l L σ t0 hst _ hc1) (va_cwS 1 hts (lw_S q848 q849 q111 q850) rfl rfl rfl hd_X1_wrong.2 ⟨(Nat.le_of_ble_eq_true rfl), (Nat.le_of_ble_eq_true rfl)⟩) (ww_preS hW) rfl rfl hl.1 rfl (lv_room (Nat.le_of_ble_eq_true rfl)) dX1_find_21 hrmx) no_v hx0 hW hlocks hout rfl e2 hrmx
    · have hs := ww_sR hs
      refine ww_xv0 (vx_runS (As := [.int t0]) (rest := []) ⟨hx, hb, hml, hown, hts⟩ (c_X1_wrong g hgm l L σ t0 hst _ hc1) (va_cwS 1 hts (lw_S q848 q849 q111 q850) rfl rfl rfl hd_X1_wrong.2 ⟨(Nat.le_of_ble_eq_true rfl), (Nat.le_of_ble_eq_true rfl)⟩) (ww_preS hW) rfl rfl hl.1 rfl (lv_room (Nat.le_of_ble_eq_true rfl)) dX1_find_21 hrm) hW (fun H locs hW => ?_)
      refine lv_aload_n hx hb dX1_find_24 rfl (lv_at hl 0 rfl) ?_
      refine gf_X1_397 hx hb hts hown hW (pr_st (hW.rd hgm) (Nat.le_of_ble_eq_true rfl)) dX1_find_25 ?_
      refine lv_bipush (v := 100) hx hb dX1_find_28 (by decide) ?_
      refine lv_icmp_ne (tgt := 35) hx hb dX1_find_30 (by decide) (fun hc6 => ?_) (fun hc6 => ?_)
      · have hs := ww_F hs hc6
        refine lv_aload_n hx hb dX1_find_35 rfl (lv_at hl 0 rfl) ?_
        refine lv_dup hx hb dX1_find_36 rfl ?_
        refine gf_X1_397 hx hb hts hown hW (pr_st (hW.rd hgm) (Nat.le_of_ble_eq_true rfl)) dX1_find_37 ?_
        refine lv_iconst (v := 1) hx hb dX1_find_40 (by decide) ?_
        refine lv_iadd hx hb dX1_find_41 ?_
        obtain ⟨σ7, e8, hs⟩ := ww_let hs
        refine pf_X1_397 hx hb hts hown hW (pr_st (hW.rd hgm) (Nat.le_of_ble_eq_true rfl)) dX1_find_42 (fun H locs hW => ?_)
        have hW : wv g L σ7 s H locs := by rw [e8]; exact hW
        obtain ⟨hx0, hcs⟩ := lx_s (σ1 := σ7) hx0 hcs (by rw [e8]; exact kp_F)
        refine lv_aload_n hx hb dX1_find_45 rfl (lv_at hl 2 rfl) ?_
        obtain ⟨hc9, hs⟩ := ww_chk hs
        refine gf_X1_400 hx hb hts hown hW (pr_dy hc9 rfl rfl) (hW.fl hgm (pr_dy hc9 rfl rfl) 2 (by decide) rfl (by decide)) dX1_find_46 ?_
        have hp10 : pr σ7 1 0 := (pr_st (hW.rd hgm) (Nat.le_of_ble_eq_true rfl))
        have hp11 : pr σ7 83 ix3 := (pr_dy hc9 rfl rfl)
        obtain ⟨hc12, hs⟩ := ww_chk hs
        have hp13 : pr σ7 78 ix3 := (pr_dy hc12 rfl rfl)
        obtain ⟨σ14, e15, hs⟩ := ww_let hs
        obtain ⟨hs, hck⟩ := ww_ck2 hs
        have hrm1 := hcs.room (σ1 := σ14) (a := 1) (b := 2) (by rw [e15]; rfl) (by rw [e15]; rfl) hck
        refine ww_newo (ci := 7) hx hb hts in_X18 tyX18 tyX18_ok hown (hts _ q1387) (hts _ q615) (hts _ q148) hW 84 0 (obv_0 rfl) rfl df_84 (Nat.le_of_ble_eq_true rfl) rfl sole_84 (Or.inl rfl) (Or.inr (Or.inr nop_84)) hrm1.1 hrm1.2 dX1_find_49 (fun H L hx1 hW => ?_)
        rw [← e15] at hx1 hW
        have hcs := hcs.more (σ1 := σ14) (a := 1) (b := 2) (by rw [e15]; rfl) (by rw [e15]; rfl)
        have hrm := hrm1
        have hc16 : ix3 < gN_ σ14 83 := Nat.lt_of_lt_of_le hc9 (hx1.2.1 83)
        have hc17 : ix3 < gN_ σ14 78 := Nat.lt_of_lt_of_le hc12 (hx1.2.1 78)
        have hc18 : gN_ σ7 84 < gN_ σ14 84 := by rw [e15]; exact nO_lt rfl
        rw [show ow_ 84 = 84 from rfl]
        have hl : lv_has ls 4 [(0, .ref (L 1 0)), (2, .int x2), (3, .ref (L 83 ix3))] := by rw [hx1.at hp10 (by decide), hx1.at hp11 (by decide)]; exact hl
        refine ww_stk (st1 := [.ref (L 84 (gN_ σ7 84)), .ref (L 78 ix3)]) (by rw [hx1.at hp13 (by decide)]) ?_
        have hx0 := hx0.trans hx1
        refine lv_dup hx hb dX1_find_52 rfl ?_
        refine lv_aload_n hx hb dX1_find_53 rfl (lv_at hl 0 rfl) ?_
        refine gf_X1_325 hx hb hts hown hW (pr_st (hW.rd hgm) (Nat.le_of_ble_eq_true rfl)) dX1_find_54 ?_
        refine lv_iload_n hx hb dX1_find_57 rfl (lv_at hl 1 rfl) ?_
        obtain ⟨σ21, hc19, hs⟩ := ww_bnd hs
        have hW := hW.raw
        obtain ⟨hkp, hs⟩ := ww_pif hs
        obtain ⟨hx0, hcs⟩ := lx_s hx0 hcs hkp
        refine ww_cv (va_runI (As := [.int (gF_ σ14 1 33 0), .int x2]) (rest := [.ref (L 84 (gN_ σ7 84)), .ref (L 78 ix3)]) ⟨hx, hb, hml, hown, hts⟩ (c_X18_init (rw_ g) rfl l L σ14 (gN_ σ7 84) (gF_ σ14 1 33 0) x2 _ hc19) (cwI 2 hts (lw_meth q618) rfl rfl rfl (hts _ q148) (hts _ q1388) (hts _ q617) rfl hd_X18_init.2 ⟨(Nat.le_of_ble_eq_true rfl), (Nat.le_of_ble_eq_true rfl)⟩) (ww_preS hW) rfl rfl hl.1 rfl (lv_room (Nat.le_of_ble_eq_true rfl)) dX1_find_58 hrm) hW (fun H locs hW => ?_)
        have hc22 : ix3 < gN_ σ21 83 := by rw [hkp.1]; exact hc16
        have hc23 : ix3 < gN_ σ21 78 := by rw [hkp.1]; exact hc17
        have hc24 : (gN_ σ7 84) < gN_ σ21 84 := by rw [hkp.1]; exact hc18
        obtain ⟨hrdy, hs⟩ := ww_pif hs
        have hW := hW.ready hrdy
        have hp25 : gP_ σ21 78 (200 + 1) ix3 ≠ 0 := (hW.fl hgm (pr_dy hc23 rfl rfl) 1 (by decide) rfl (by decide))
        obtain ⟨σ26, hc27, hs⟩ := ww_bnd hs
        have hl : lv_has ls 4 [(3, .ref (L 83 ix3))] := lv_sub hl [2] rfl
        have hp28 : pr σ21 83 ix3 := (pr_dy hc22 rfl rfl)
        obtain ⟨hc29, hs⟩ := ww_chk hs
        obtain ⟨hs, hck⟩ := ww_ck2 hs
        have hrm1 := hcs.roomC hc29 hck
        refine wa_ci (va_runV (As := [.ref (L 84 (gN_ σ7 84))]) (rest := []) ⟨hx, hb, hml, hown, hts⟩ (c_AL_add g l L σ21 σ26 78 ix3 79 84 (gN_ σ7 84) lst_78 eq_84 rfl (pr_dy hc23 rfl rfl) (pr_dy hc24 rfl rfl) hp25 hc27 hc29) (cwV 1 hts (lw_V q713 q630 q631 q117 q632) rfl rfl rfl hd_J2_add ⟨(Nat.le_of_ble_eq_true rfl), (Nat.le_of_ble_eq_true rfl)⟩) (ww_preV hW (pr_dy hc23 rfl rfl) (obv_0 rfl) rfl) rfl rfl hl.1 rfl (lv_room (Nat.le_of_ble_eq_true rfl)) dX1_find_61 hrm1) hW (fun H locs L hx1 hW => ?_)
        have hc30 : ix3 < gN_ σ26 83 := Nat.lt_of_lt_of_le hc22 (hx1.2.1 83)
        have hc31 : ix3 < gN_ σ26 78 := Nat.lt_of_lt_of_le hc23 (hx1.2.1 78)
        have hc32 : (gN_ σ7 84) < gN_ σ26 84 := Nat.lt_of_lt_of_le hc24 (hx1.2.1 84)
        have hcs := hcs.call hc29
        have hrm := hrm1
        have hl : lv_has ls 4 [(3, .ref (L 83 ix3))] := by rw [hx1.at hp28 (by decide)]; exact hl
        have hx0 := hx0.trans hx1
        refine lv_pop hx hb dX1_find_64 rfl ?_
        refine lv_aload_n hx hb dX1_find_65 rfl (lv_at hl 0 rfl) ?_
        refine gf_X1_400 hx hb hts hown hW (pr_dy hc30 rfl rfl) (hW.fl hgm (pr_dy hc30 rfl rfl) 2 (by decide) rfl (by decide)) dX1_find_66 ?_
        refine ww_ci (va_runV (As := []) (rest := []) ⟨hx, hb, hml, hown, hts⟩ (c_AL_size g hgm l L σ26 78 ix3 79 rfl rfl (pr_dy hc31 rfl rfl)) (cwV 0 hts (lw_V q514 q515 q516 q117 q517) rfl rfl rfl hd_J2_size ⟨(Nat.le_of_ble_eq_true rfl), (Nat.le_of_ble_eq_true rfl)⟩) (ww_preV hW (pr_dy hc31 rfl rfl) (obv_0 rfl) rfl) rfl rfl hl.1 rfl (lv_room (Nat.le_of_ble_eq_true rfl)) dX1_find_69 hrm) hW (fun H locs hW => ?_)
        have hs := ww_S hs
        exact wz_i hx hb hr hlocks hx0 hcs hW (congrArg Prod.fst hs) (congrArg Prod.snd hs) dX1_find_72
      · have hs := ww_T hs hc6
        refine lv_iconst (v := (-1)) hx hb dX1_find_33 (by decide) ?_
        have hs := ww_S hs
        exact wz_i hx hb hr hlocks hx0 hcs hW (congrArg Prod.fst hs) (congrArg Prod.snd hs) dX1_find_34
  refine lv_aload_n hx hb dX1_find_0 rfl (lv_at hl 0 rfl) ?_
  refine lv_iload_n hx hb dX1_find_1 rfl (lv_at hl 1 rfl) ?_
  obtain ⟨o35, hc33, hs⟩ := ww_bnd hs
  rcases o35 with k36 | v37
  · have hs := ww_sL hs
    have hs := ww_S hs
    have e1 : o_ = .inl k36 := congrArg Prod.fst hs
    have e2 : σ_ = bX_ σ := congrArg Prod.snd hs
    subst e1
    have hrmx := hcs.room (σ1 := bX_ σ) (σ_ := σ_) (a := 1) (b := 6) rfl rfl (by rw [e2]; exact ⟨Nat.le_refl _, Nat.le_refl _⟩)
    exact wz_prop (vx_runV (As := [.int a1]) (rest := []) ⟨hx, hb, hml, hown, hts⟩ (c_X1_claimAt g hgm l L σ a1 hst _ hc33) (cwV 1 hts (lw_V q1382 q1384 qs33 q111 q1385) rfl rfl rfl hd_X1_claimAt ⟨(Nat.le_of_ble_eq_true rfl), (Nat.le_of_ble_eq_true rfl)⟩) (ww_preV hW (pr_st (hW.rd hgm) (Nat.le_of_ble_eq_true rfl)) (obv_0 rfl) rfl) rfl rfl hl.1 rfl (lv_room (Nat.le_of_ble_eq_true rfl)) dX1_find_2 hrmx) no_r hx0 hW hlocks hout rfl e2 hrmx
  · have hs := ww_sR hs
    refine ww_xr0 (vx_runV (As := [.int a1]) (rest := []) ⟨hx, hb, hml, hown, hts⟩ (c_X1_claimAt g hgm l L σ a1 hst _ hc33) (cwV 1 hts (lw_V q1382 q1384 qs33 q111 q1385) rfl rfl rfl hd_X1_claimAt ⟨(Nat.le_of_ble_eq_true rfl), (Nat.le_of_ble_eq_true rfl)⟩) (ww_preV hW (pr_st (hW.rd hgm) (Nat.le_of_ble_eq_true rfl)) (obv_0 rfl) rfl) rfl rfl hl.1 rfl (lv_room (Nat.le_of_ble_eq_true rfl)) dX1_find_2 hrm) hW (fun H locs hW => ?_)
    refine lv_astore_n (lv' := [(3, .ref (L 83 v37)), (0, .ref (L 1 0)), (1, .int a1), (2, .int a2)]) hx hb dX1_find_5 rfl hl (by decide) rfl (fun ls hl => ?_)
    refine lv_iload_n hx hb dX1_find_6 rfl (lv_at hl 3 rfl) ?_
    refine lv_iconst (v := 0) hx hb dX1_find_7 (by decide) ?_
    refine lv_ldc hx hb hown (hts _ q1386) dX1_find_8 ?_
    obtain ⟨v40, hc38, hs⟩ := ww_bnd hs
    refine ww_ci (va_runS (As := [.int a2, .int (0 : Int32), .int (100000 : Int32)]) (rest := []) ⟨hx, hb, hml, hown, hts⟩ (c_X1_in g hgm l L σ a2 (0 : Int32) (100000 : Int32) _ hc38) (va_cwS 3 hts (lw_S q824 q825 q111 q826) rfl rfl rfl hd_X1_in.2 ⟨(Nat.le_of_ble_eq_true rfl), (Nat.le_of_ble_eq_true rfl)⟩) (ww_preS hW) rfl rfl hl.1 rfl (lv_room (Nat.le_of_ble_eq_true rfl)) dX1_find_10 hrm) hW (fun H locs hW => ?_)
    refine lv_if_ne (tgt := 20) hx hb dX1_find_13 (by decide) (fun hc41 => ?_) (fun hc41 => ?_)
    · have hs := ww_F hs hc41
      refine lv_iconst (v := 0) hx hb dX1_find_20 (by decide) ?_
      exact hL21 L σ a2 v37 (0 : Int32) _ _ _ _ ls hx0 hcs hrm hW (lv_sub hl [1, 3, 0] rfl) hs
    · have hs := ww_T hs hc41
      refine lv_iconst (v := 1) hx hb dX1_find_16 (by decide) ?_
      refine lv_goto (tgt := 21) hx hb dX1_find_17 (by decide) ?_
      exact hL21 L σ a2 v37 (1 : Int32) _ _ _ _ ls hx0 hcs hrm hW (lv_sub hl [1, 3, 0] rfl) hs
set_option maxHeartbeats 4000000 in
theorem c_X1_wire (g : wg_T) (hgm : gm g = true) (l : Launch) (L : ly_T) (σ : st_T) (a1 : Int32) (a2 : Int32) (a3 : Int32) (hst : l.stackTraces = false) (o_ : Nat ⊕ Int32) (σ_ : st_T) (hs : m_X1_wire σ a1 a2 a3 = some (o_, σ_)) : YI g l yX1_wire (ws_ yX1_wire cX1_wire 4 (some .int)) 16 500 [.ref (L 1 0), .int a1, .int a2, .int a3] L σ o_ σ_ := by
  refine xbody.met (by decide) (Nat.le_of_ble_eq_true rfl) ?_
  intro p e s m args below meth c ls hx hb hr hml hlocks hts hown hnm hout hW hl
  have hown : s.vm.findClass RX1 = some m.cls := hown
  obtain ⟨L0, hL0⟩ : ∃ L0, L0 = L := ⟨_, rfl⟩
  obtain ⟨σ0, hσ0⟩ : ∃ σ0, σ0 = σ := ⟨_, rfl⟩
  rw [← hσ0, ← hL0]
  have hx0 : lext L0 σ0 L σ := by rw [hL0, hσ0]; exact lext.refl
  have hcs : bk σ0 σ 0 0 := bk.start hσ0
  have hrm : 0 ≤ cu_ σ_ - cu_ σ0 ∧ 0 ≤ su_ σ_ - su_ σ0 := ⟨Nat.zero_le _, Nat.zero_le _⟩
  have hl : lv_has ls 4 [(0, .ref (L 1 0)), (1, .int a1), (2, .int a2), (3, .int a3)] := hl
  unfold m_X1_wire at hs
  have hL20 : ∀ (L : ly_T) (σ : st_T) (x1 : Int32) (x2 : Int32) (x3 : Int32) (t0 : Int32) (H : Heap) (locs : List Loc) (cells slots : Nat) (ls : Array Slot), lext L0 σ0 L σ → bk σ0 σ cells slots → (cells ≤ cu_ σ_ - cu_ σ0 ∧ slots ≤ su_ σ_ - su_ σ0) → wv g L σ s H locs → lv_has ls 4 [(0, .ref (L 1 0)), (1, .int x1), (2, .int x2), (3, .int x3)] → m_X1_wire_L20 σ x1 x2 x3 t0 = some (o_, σ_) → W p l e (wrA 16 500 σ0 σ_) s m args below meth c H locs cells slots (vx_MQ below (yXi g L0 σ0 o_ σ_) (yX g L0 σ0 o_ σ_) args s (cu_ σ_ - cu_ σ0) (su_ σ_ - su_ σ0) (fun q => gz g ≤ q)) (F0 m 20 ls [.int t0]) := by
    intro L σ x1 x2 x3 t0 H locs cells slots ls hx0 hcs hrm hW hl hs
    unfold m_X1_wire_L20 at hs
    obtain ⟨o3, hc1, hs⟩ := ww_bnd hs
    rcases o3 with k4 | v5
    · have hs := ww_sL hs
      have hs := ww_S hs
      have e1 : o_ = .inl k4 := congrArg Prod.fst hs
      have e2 : σ_ = bX_ σ := congrArg Prod.snd hs
      subst e1
      have hrmx := hcs.room (σ1 := bX_ σ) (σ_ := σ_) (a := 1) (b := 6) rfl rfl (by rw [e2]; exact ⟨Nat.le_refl _, Nat.le_refl _⟩)
      exact wz_prop (vx_runS (As := [.int t0]) (rest := []) ⟨hx, hb, hml, hown, hts⟩ (c_X1_wrong g hgm l L σ t0 hst _ hc1) (va_cwS 1 hts (lw_S q848 q849 q111 q850) rfl rfl rfl hd_X1_wrong.2 ⟨(Nat.le_of_ble_eq_true rfl), (Nat.le_of_ble_eq_true rfl)⟩) (ww_preS hW) rfl rfl hl.1 rfl (lv_room (Nat.le_of_ble_eq_true rfl)) dX1_wire_20 hrmx) no_v hx0 hW hlocks hout rfl e2 hrmx
    · have hs := ww_sR hs
      refine ww_xv0 (vx_runS (As := [.int t0]) (rest := []) ⟨hx, hb, hml, hown, hts⟩ (c_X1_wrong g hgm l L σ t0 hst _ hc1) (va_cwS 1 hts (lw_S q848 q849 q111 q850) rfl rfl rfl hd_X1_wrong.2 ⟨(Nat.le_of_ble_eq_true rfl), (Nat.le_of_ble_eq_true rfl)⟩) (ww_preS hW) rfl rfl hl.1 rfl (lv_room (Nat.le_of_ble_eq_true rfl)) dX1_wire_20 hrm) hW (fun H locs hW => ?_)
      refine lv_aload_n hx hb dX1_wire_23 rfl (lv_at hl 0 rfl) ?_
      refine gf_X1_78 hx hb hts hown hW (pr_st (hW.rd hgm) (Nat.le_of_ble_eq_true rfl)) (hW.fl hgm (pr_st (hW.rd hgm) (Nat.le_of_ble_eq_true rfl)) 8 (by decide) rfl (by decide)) dX1_wire_24 ?_
      refine ww_ci (va_runV (As := []) (rest := []) ⟨hx, hb, hml, hown, hts⟩ (c_AL_size g hgm l L σ 74 0 75 rfl rfl (pr_st (hW.rd hgm) (Nat.le_of_ble_eq_true rfl))) (cwV 0 hts (lw_V q514 q515 q516 q117 q517) rfl rfl rfl hd_J2_size ⟨(Nat.le_of_ble_eq_true rfl), (Nat.le_of_ble_eq_true rfl)⟩) (ww_preV hW (pr_st (hW.rd hgm) (Nat.le_of_ble_eq_true rfl)) (obv_0 rfl) rfl) rfl rfl hl.1 rfl (lv_room (Nat.le_of_ble_eq_true rfl)) dX1_wire_27 hrm) hW (fun H locs hW => ?_)
      refine lv_bipush (v := 10) hx hb dX1_wire_30 (by decide) ?_
      refine lv_icmp_ne (tgt := 37) hx hb dX1_wire_32 (by decide) (fun hc6 => ?_) (fun hc6 => ?_)
      · have hs := ww_F hs hc6
        refine lv_aload_n hx hb dX1_wire_37 rfl (lv_at hl 0 rfl) ?_
        refine gf_X1_78 hx hb hts hown hW (pr_st (hW.rd hgm) (Nat.le_of_ble_eq_true rfl)) (hW.fl hgm (pr_st (hW.rd hgm) (Nat.le_of_ble_eq_true rfl)) 8 (by decide) rfl (by decide)) dX1_wire_38 ?_
        have hp7 : pr σ 1 0 := (pr_st (hW.rd hgm) (Nat.le_of_ble_eq_true rfl))
        have hp8 : pr σ 74 0 := (pr_st (hW.rd hgm) (Nat.le_of_ble_eq_true rfl))
        obtain ⟨σ9, e10, hs⟩ := ww_let hs
        obtain ⟨hs, hck⟩ := ww_ck2 hs
        have hrm1 := hcs.room (σ1 := σ9) (a := 1) (b := 3) (by rw [e10]; rfl) (by rw [e10]; rfl) hck
        refine ww_newo (ci := 8) hx hb hts in_X20 tyX20 tyX20_ok hown (hts _ q1535) (hts _ q1536) (hts _ q151) hW 85 0 (obv_0 rfl) rfl df_85 (Nat.le_of_ble_eq_true rfl) rfl sole_85 (Or.inl rfl) (Or.inr (Or.inr nop_85)) hrm1.1 hrm1.2 dX1_wire_41 (fun H L hx1 hW => ?_)
        rw [← e10] at hx1 hW
        have hcs := hcs.more (σ1 := σ9) (a := 1) (b := 3) (by rw [e10]; rfl) (by rw [e10]; rfl)
        have hrm := hrm1
        have hc11 : gN_ σ 85 < gN_ σ9 85 := by rw [e10]; exact nO_lt rfl
        rw [show ow_ 85 = 85 from rfl]
        have hl : lv_has ls 4 [(0, .ref (L 1 0)), (1, .int x1), (2, .int x2), (3, .int x3)] := by rw [hx1.at hp7 (by decide)]; exact hl
        refine ww_stk (st1 := [.ref (L 85 (gN_ σ 85)), .ref (L 74 0)]) (by rw [hx1.at hp8 (by decide)]) ?_
        have hx0 := hx0.trans hx1
        refine lv_dup hx hb dX1_wire_44 rfl ?_
        refine lv_iload_n hx hb dX1_wire_45 rfl (lv_at hl 1 rfl) ?_
        refine lv_iload_n hx hb dX1_wire_46 rfl (lv_at hl 2 rfl) ?_
        refine lv_iload_n hx hb dX1_wire_47 rfl (lv_at hl 3 rfl) ?_
        obtain ⟨σ14, hc12, hs⟩ := ww_bnd hs
        have hW := hW.raw
        obtain ⟨hkp, hs⟩ := ww_pif hs
        obtain ⟨hx0, hcs⟩ := lx_s hx0 hcs hkp
        refine ww_cv (va_runI (As := [.int x1, .int x2, .int x3]) (rest := [.ref (L 85 (gN_ σ 85)), .ref (L 74 0)]) ⟨hx, hb, hml, hown, hts⟩ (c_X20_init (rw_ g) rfl l L σ9 (gN_ σ 85) x1 x2 x3 _ hc12) (cwI 3 hts (lw_meth q1539) rfl rfl rfl (hts _ q151) (hts _ q1537) (hts _ q1538) rfl hd_X20_init.2 ⟨(Nat.le_of_ble_eq_true rfl), (Nat.le_of_ble_eq_true rfl)⟩) (ww_preS hW) rfl rfl hl.1 rfl (lv_room (Nat.le_of_ble_eq_true rfl)) dX1_wire_48 hrm) hW (fun H locs hW => ?_)
        have hc15 : (gN_ σ 85) < gN_ σ14 85 := by rw [hkp.1]; exact hc11
        obtain ⟨hrdy, hs⟩ := ww_pif hs
        have hW := hW.ready hrdy
        have hp16 : gP_ σ14 74 (200 + 1) 0 ≠ 0 := (hW.fl hgm (pr_st (hW.rd hgm) (Nat.le_of_ble_eq_true rfl)) 1 (by decide) rfl (by decide))
        obtain ⟨σ17, hc18, hs⟩ := ww_bnd hs
        have hl : lv_has ls 4 [(0, .ref (L 1 0))] := lv_sub hl [0] rfl
        have hp19 : pr σ14 1 0 := (pr_st (hW.rd hgm) (Nat.le_of_ble_eq_true rfl))
        obtain ⟨hc20, hs⟩ := ww_chk hs
        obtain ⟨hs, hck⟩ := ww_ck2 hs
        have hrm1 := hcs.roomC hc20 hck
        refine wa_ci (va_runV (As := [.ref (L 85 (gN_ σ 85))]) (rest := []) ⟨hx, hb, hml, hown, hts⟩ (c_AL_add g l L σ14 σ17 74 0 75 85 (gN_ σ 85) lst_74 eq_85 rfl (pr_st (hW.rd hgm) (Nat.le_of_ble_eq_true rfl)) (pr_dy hc15 rfl rfl) hp16 hc18 hc20) (cwV 1 hts (lw_V q713 q630 q631 q117 q632) rfl rfl rfl hd_J2_add ⟨(Nat.le_of_ble_eq_true rfl), (Nat.le_of_ble_eq_true rfl)⟩) (ww_preV hW (pr_st (hW.rd hgm) (Nat.le_of_ble_eq_true rfl)) (obv_0 rfl) rfl) rfl rfl hl.1 rfl (lv_room (Nat.le_of_ble_eq_true rfl)) dX1_wire_51 hrm1) hW (fun H locs L hx1 hW => ?_)
        have hc21 : (gN_ σ 85) < gN_ σ17 85 := Nat.lt_of_lt_of_le hc15 (hx1.2.1 85)
        have hcs := hcs.call hc20
        have hrm := hrm1
        have hl : lv_has ls 4 [(0, .ref (L 1 0))] := by rw [hx1.at hp19 (by decide)]; exact hl
        have hx0 := hx0.trans hx1
        refine lv_pop hx hb dX1_wire_54 rfl ?_
        refine lv_aload_n hx hb dX1_wire_55 rfl (lv_at hl 0 rfl) ?_
        refine gf_X1_78 hx hb hts hown hW (pr_st (hW.rd hgm) (Nat.le_of_ble_eq_true rfl)) (hW.fl hgm (pr_st (hW.rd hgm) (Nat.le_of_ble_eq_true rfl)) 8 (by decide) rfl (by decide)) dX1_wire_56 ?_
        refine ww_ci (va_runV (As := []) (rest := []) ⟨hx, hb, hml, hown, hts⟩ (c_AL_size g hgm l L σ17 74 0 75 rfl rfl (pr_st (hW.rd hgm) (Nat.le_of_ble_eq_true rfl))) (cwV 0 hts (lw_V q514 q515 q516 q117 q517) rfl rfl rfl hd_J2_size ⟨(Nat.le_of_ble_eq_true rfl), (Nat.le_of_ble_eq_true rfl)⟩) (ww_preV hW (pr_st (hW.rd hgm) (Nat.le_of_ble_eq_true rfl)) (obv_0 rfl) rfl) rfl rfl hl.1 rfl (lv_room (Nat.le_of_ble_eq_true rfl)) dX1_wire_59 hrm) hW (fun H locs hW => ?_)
        refine lv_iconst (v := 1) hx hb dX1_wire_62 (by decide) ?_
        refine lv_isub hx hb dX1_wire_63 ?_
        have hs := ww_S hs
        exact wz_i hx hb hr hlocks hx0 hcs hW (congrArg Prod.fst hs) (congrArg Prod.snd hs) dX1_wire_64
      · have hs := ww_T hs hc6
        refine lv_iconst (v := (-1)) hx hb dX1_wire_35 (by decide) ?_
        have hs := ww_S hs
        exact wz_i hx hb hr hlocks hx0 hcs hW (congrArg Prod.fst hs) (congrArg Prod.snd hs) dX1_wire_36
  refine lv_iload_n hx hb dX1_wire_0 rfl (lv_at hl 1 rfl) ?_
  refine lv_iload_n hx hb dX1_wire_1 rfl (lv_at hl 2 rfl) ?_
  obtain ⟨o24, hc22, hs⟩ := ww_bnd hs
  rcases o24 with k25 | v26
  · have hs := ww_sL hs
    have hs := ww_S hs
    have e1 : o_ = .inl k25 := congrArg Prod.fst hs
    have e2 : σ_ = bX_ σ := congrArg Prod.snd hs
    subst e1
    have hrmx := hcs.room (σ1 := bX_ σ) (σ_ := σ_) (a := 1) (b := 6) rfl rfl (by rw [e2]; exact ⟨Nat.le_refl _, Nat.le_refl _⟩)
    exact wz_prop (vx_runS (As := [.int a1, .int a2]) (rest := []) ⟨hx, hb, hml, hown, hts⟩ (c_X1_edge g hgm l L σ a1 a2 hst _ hc22) (va_cwS 2 hts (lw_S q920 q921 q111 q922) rfl rfl rfl hd_X1_edge.2 ⟨(Nat.le_of_ble_eq_true rfl), (Nat.le_of_ble_eq_true rfl)⟩) (ww_preS hW) rfl rfl hl.1 rfl (lv_room (Nat.le_of_ble_eq_true rfl)) dX1_wire_2 hrmx) no_v hx0 hW hlocks hout rfl e2 hrmx
  · have hs := ww_sR hs
    refine ww_xv0 (vx_runS (As := [.int a1, .int a2]) (rest := []) ⟨hx, hb, hml, hown, hts⟩ (c_X1_edge g hgm l L σ a1 a2 hst _ hc22) (va_cwS 2 hts (lw_S q920 q921 q111 q922) rfl rfl rfl hd_X1_edge.2 ⟨(Nat.le_of_ble_eq_true rfl), (Nat.le_of_ble_eq_true rfl)⟩) (ww_preS hW) rfl rfl hl.1 rfl (lv_room (Nat.le_of_ble_eq_true rfl)) dX1_wire_2 hrm) hW (fun H locs hW => ?_)
    refine lv_iload_n hx hb dX1_wire_5 rfl (lv_at hl 3 rfl) ?_
    refine lv_iconst (v := 0) hx hb dX1_wire_6 (by decide) ?_
    refine lv_bipush (v := 12) hx hb dX1_wire_7 (by decide) ?_
    obtain ⟨v29, hc27, hs⟩ := ww_bnd hs
    refine ww_ci (va_runS (As := [.int a3, .int (0 : Int32), .int (12 : Int32)]) (rest := []) ⟨hx, hb, hml, hown, hts⟩ (c_X1_in g hgm l L σ a3 (0 : Int32) (12 : Int32) _ hc27) (va_cwS 3 hts (lw_S q824 q825 q111 q826) rfl rfl rfl hd_X1_in.2 ⟨(Nat.le_of_ble_eq_true rfl), (Nat.le_of_ble_eq_true rfl)⟩) (ww_preS hW) rfl rfl hl.1 rfl (lv_room (Nat.le_of_ble_eq_true rfl)) dX1_wire_9 hrm) hW (fun H locs hW => ?_)
    refine lv_if_ne (tgt := 19) hx hb dX1_wire_12 (by decide) (fun hc30 => ?_) (fun hc30 => ?_)
    · have hs := ww_F hs hc30
      refine lv_iconst (v := 0) hx hb dX1_wire_19 (by decide) ?_
      exact hL20 L σ a1 a2 a3 (0 : Int32) _ _ _ _ ls hx0 hcs hrm hW (lv_sub hl [0, 1, 2, 3] rfl) hs
    · have hs := ww_T hs hc30
      refine lv_iconst (v := 1) hx hb dX1_wire_15 (by decide) ?_
      refine lv_goto (tgt := 20) hx hb dX1_wire_16 (by decide) ?_
      exact hL20 L σ a1 a2 a3 (1 : Int32) _ _ _ _ ls hx0 hcs hrm hW (lv_sub hl [0, 1, 2, 3] rfl) hs
set_option maxHeartbeats 4000000 in
theorem c_X1_trip (g : wg_T) (hgm : gm g = true) (l : Launch) (L : ly_T) (σ : st_T) (a1 : Int32) (a2 : Int32) (hst : l.stackTraces = false) (o_ : Nat ⊕ Int32) (σ_ : st_T) (hs : m_X1_trip σ a1 a2 = some (o_, σ_)) : YI g l yX1_trip (ws_ yX1_trip cX1_trip 4 (some .int)) 16 500 [.ref (L 1 0), .int a1, .int a2] L σ o_ σ_ := by
  refine xbody.met (by decide) (Nat.le_of_ble_eq_true rfl) ?_
  intro p e s m args below meth c ls hx hb hr hml hlocks hts hown hnm hout hW hl
  have hown : s.vm.findClass RX1 = some m.cls := hown
  obtain ⟨L0, hL0⟩ : ∃ L0, L0 = L := ⟨_, rfl⟩
  obtain ⟨σ0, hσ0⟩ : ∃ σ0, σ0 = σ := ⟨_, rfl⟩
  rw [← hσ0, ← hL0]
  have hx0 : lext L0 σ0 L σ := by rw [hL0, hσ0]; exact lext.refl
  have hcs : bk σ0 σ 0 0 := bk.start hσ0
  have hrm : 0 ≤ cu_ σ_ - cu_ σ0 ∧ 0 ≤ su_ σ_ - su_ σ0 := ⟨Nat.zero_le _, Nat.zero_le _⟩
  have hl : lv_has ls 4 [(0, .ref (L 1 0)), (1, .int a1), (2, .int a2)] := hl
  unfold m_X1_trip at hs
  refine lv_aload_n hx hb dX1_trip_0 rfl (lv_at hl 0 rfl) ?_
  refine lv_iload_n hx hb dX1_trip_1 rfl (lv_at hl 1 rfl) ?_
  obtain ⟨o3, hc1, hs⟩ := ww_bnd hs
  rcases o3 with k4 | v5
  · have hs := ww_sL hs
    have hs := ww_S hs
    have e1 : o_ = .inl k4 := congrArg Prod.fst hs
    have e2 : σ_ = bX_ σ := congrArg Prod.snd hs
    subst e1
    have hrmx := hcs.room (σ1 := bX_ σ) (σ_ := σ_) (a := 1) (b := 6) rfl rfl (by rw [e2]; exact ⟨Nat.le_refl _, Nat.le_refl _⟩)
    exact wz_prop (vx_runV (As := [.int a1]) (rest := []) ⟨hx, hb, hml, hown, hts⟩ (c_X1_wireAt g hgm l L σ a1 hst _ hc1) (cwV 1 hts (lw_V q1572 q1574 qs38 q111 q1575) rfl rfl rfl hd_X1_wireAt ⟨(Nat.le_of_ble_eq_true rfl), (Nat.le_of_ble_eq_true rfl)⟩) (ww_preV hW (pr_st (hW.rd hgm) (Nat.le_of_ble_eq_true rfl)) (obv_0 rfl) rfl) rfl rfl hl.1 rfl (lv_room (Nat.le_of_ble_eq_true rfl)) dX1_trip_2 hrmx) no_r hx0 hW hlocks hout rfl e2 hrmx
  · have hs := ww_sR hs
    refine ww_xr0 (vx_runV (As := [.int a1]) (rest := []) ⟨hx, hb, hml, hown, hts⟩ (c_X1_wireAt g hgm l L σ a1 hst _ hc1) (cwV 1 hts (lw_V q1572 q1574 qs38 q111 q1575) rfl rfl rfl hd_X1_wireAt ⟨(Nat.le_of_ble_eq_true rfl), (Nat.le_of_ble_eq_true rfl)⟩) (ww_preV hW (pr_st (hW.rd hgm) (Nat.le_of_ble_eq_true rfl)) (obv_0 rfl) rfl) rfl rfl hl.1 rfl (lv_room (Nat.le_of_ble_eq_true rfl)) dX1_trip_2 hrm) hW (fun H locs hW => ?_)
    refine lv_astore_n (lv' := [(3, .ref (L 85 v5)), (0, .ref (L 1 0)), (1, .int a1), (2, .int a2)]) hx hb dX1_trip_5 rfl hl (by decide) rfl (fun ls hl => ?_)
    refine lv_iload_n hx hb dX1_trip_6 rfl (lv_at hl 3 rfl) ?_
    obtain ⟨o8, hc6, hs⟩ := ww_bnd hs
    rcases o8 with k9 | v10
    · have hs := ww_sL hs
      have hs := ww_S hs
      have e1 : o_ = .inl k9 := congrArg Prod.fst hs
      have e2 : σ_ = bX_ σ := congrArg Prod.snd hs
      subst e1
      have hrmx := hcs.room (σ1 := bX_ σ) (σ_ := σ_) (a := 1) (b := 6) rfl rfl (by rw [e2]; exact ⟨Nat.le_refl _, Nat.le_refl _⟩)
      exact wz_prop (vx_runS (As := [.int a2]) (rest := []) ⟨hx, hb, hml, hown, hts⟩ (c_X1_hour g hgm l L σ a2 hst _ hc6) (va_cwS 1 hts (lw_S q1493 q1494 q111 q1495) rfl rfl rfl hd_X1_hour.2 ⟨(Nat.le_of_ble_eq_true rfl), (Nat.le_of_ble_eq_true rfl)⟩) (ww_preS hW) rfl rfl hl.1 rfl (lv_room (Nat.le_of_ble_eq_true rfl)) dX1_trip_7 hrmx) no_v hx0 hW hlocks hout rfl e2 hrmx
    · have hs := ww_sR hs
      refine ww_xv0 (vx_runS (As := [.int a2]) (rest := []) ⟨hx, hb, hml, hown, hts⟩ (c_X1_hour g hgm l L σ a2 hst _ hc6) (va_cwS 1 hts (lw_S q1493 q1494 q111 q1495) rfl rfl rfl hd_X1_hour.2 ⟨(Nat.le_of_ble_eq_true rfl), (Nat.le_of_ble_eq_true rfl)⟩) (ww_preS hW) rfl rfl hl.1 rfl (lv_room (Nat.le_of_ble_eq_true rfl)) dX1_trip_7 hrm) hW (fun H locs hW => ?_)
      refine lv_aload_n hx hb dX1_trip_10 rfl (lv_at hl 1 rfl) ?_
      refine gf_X1_81 hx hb hts hown hW (pr_st (hW.rd hgm) (Nat.le_of_ble_eq_true rfl)) (hW.fl hgm (pr_st (hW.rd hgm) (Nat.le_of_ble_eq_true rfl)) 9 (by decide) rfl (by decide)) dX1_trip_11 ?_
      refine ww_ci (va_runV (As := []) (rest := []) ⟨hx, hb, hml, hown, hts⟩ (c_AL_size g hgm l L σ 76 0 77 rfl rfl (pr_st (hW.rd hgm) (Nat.le_of_ble_eq_true rfl))) (cwV 0 hts (lw_V q514 q515 q516 q117 q517) rfl rfl rfl hd_J2_size ⟨(Nat.le_of_ble_eq_true rfl), (Nat.le_of_ble_eq_true rfl)⟩) (ww_preV hW (pr_st (hW.rd hgm) (Nat.le_of_ble_eq_true rfl)) (obv_0 rfl) rfl) rfl rfl hl.1 rfl (lv_room (Nat.le_of_ble_eq_true rfl)) dX1_trip_14 hrm) hW (fun H locs hW => ?_)
      refine lv_bipush (v := 60) hx hb dX1_trip_17 (by decide) ?_
      refine lv_icmp_ne (tgt := 24) hx hb dX1_trip_19 (by decide) (fun hc11 => ?_) (fun hc11 => ?_)
      · have hs := ww_F hs hc11
        refine lv_aload_n hx hb dX1_trip_24 rfl (lv_at hl 1 rfl) ?_
        refine gf_X1_81 hx hb hts hown hW (pr_st (hW.rd hgm) (Nat.le_of_ble_eq_true rfl)) (hW.fl hgm (pr_st (hW.rd hgm) (Nat.le_of_ble_eq_true rfl)) 9 (by decide) rfl (by decide)) dX1_trip_25 ?_
        have hW := hW.raw
        have hl : lv_has ls 4 [(3, .ref (L 85 v5)), (0, .ref (L 1 0)), (2, .int a2)] := lv_sub hl [0, 1, 3] rfl
        obtain ⟨hc12, hs⟩ := ww_chk hs
        have hp13 : pr σ 85 v5 := (pr_dy hc12 rfl rfl)
        obtain ⟨hc14, hs⟩ := ww_chk hs
        have hp15 : pr σ 1 0 := (pr_dy hc14 rfl rfl)
        obtain ⟨hc16, hs⟩ := ww_chk hs
        have hp17 : pr σ 76 0 := (pr_dy hc16 rfl rfl)
        obtain ⟨σ18, e19, hs⟩ := ww_let hs
        obtain ⟨hs, hck⟩ := ww_ck2 hs
        have hrm1 := hcs.room (σ1 := σ18) (a := 1) (b := 2) (by rw [e19]; rfl) (by rw [e19]; rfl) hck
        refine ww_newo (ci := 9) hx hb hts in_X21 tyX21 tyX21_ok hown (hts _ q1576) (hts _ q1577) (hts _ q152) hW 86 0 (obv_0 rfl) rfl df_86 (Nat.le_of_ble_eq_true rfl) rfl sole_86 (Or.inl rfl) (Or.inl rfl) hrm1.1 hrm1.2 dX1_trip_28 (fun H L hx1 hW => ?_)
        rw [← e19] at hx1 hW
        have hcs := hcs.more (σ1 := σ18) (a := 1) (b := 2) (by rw [e19]; rfl) (by rw [e19]; rfl)
        have hrm := hrm1
        have hc20 : v5 < gN_ σ18 85 := Nat.lt_of_lt_of_le hc12 (hx1.2.1 85)
        have hc21 : 0 < gN_ σ18 1 := Nat.lt_of_lt_of_le hc14 (hx1.2.1 1)
        have hc22 : 0 < gN_ σ18 76 := Nat.lt_of_lt_of_le hc16 (hx1.2.1 76)
        have hc23 : gN_ σ 86 < gN_ σ18 86 := by rw [e19]; exact nO_lt rfl
        rw [show ow_ 86 = 86 from rfl]
        have hl : lv_has ls 4 [(3, .ref (L 85 v5)), (0, .ref (L 1 0)), (2, .int a2)] := by rw [hx1.at hp13 (by decide), hx1.at hp15 (by decide)]; exact hl
        refine ww_stk (st1 := [.ref (L 86 (gN_ σ 86)), .ref (L 76 0)]) (by rw [hx1.at hp17 (by decide)]) ?_
        have hx0 := hx0.trans hx1
        refine lv_dup hx hb dX1_trip_31 rfl ?_
        refine lv_aload_n hx hb dX1_trip_32 rfl (lv_at hl 0 rfl) ?_
        refine lv_iload_n hx hb dX1_trip_33 rfl (lv_at hl 2 rfl) ?_
        obtain ⟨σ26, hc24, hs⟩ := ww_bnd hs
        obtain ⟨hkp, hs⟩ := ww_pif hs
        obtain ⟨hx0, hcs⟩ := lx_s hx0 hcs hkp
        refine ww_cv (va_runI (As := [.ref (L 85 v5), .int a2]) (rest := [.ref (L 86 (gN_ σ 86)), .ref (L 76 0)]) ⟨hx, hb, hml, hown, hts⟩ (c_X21_init (rw_ g) rfl l L σ18 (gN_ σ 86) v5 a2 _ hc24) (cwI 2 hts (lw_meth q1580) rfl rfl rfl (hts _ q152) (hts _ q1578) (hts _ q1579) rfl hd_X21_init.2 ⟨(Nat.le_of_ble_eq_true rfl), (Nat.le_of_ble_eq_true rfl)⟩) (ww_preS hW) rfl rfl hl.1 rfl (lv_room (Nat.le_of_ble_eq_true rfl)) dX1_trip_34 hrm) hW (fun H locs hW => ?_)
        have hc27 : v5 < gN_ σ26 85 := by rw [hkp.1]; exact hc20
        have hc28 : 0 < gN_ σ26 1 := by rw [hkp.1]; exact hc21
        have hc29 : 0 < gN_ σ26 76 := by rw [hkp.1]; exact hc22
        have hc30 : (gN_ σ 86) < gN_ σ26 86 := by rw [hkp.1]; exact hc23
        obtain ⟨hrdy, hs⟩ := ww_pif hs
        have hW := hW.ready hrdy
        have hp31 : gP_ σ26 76 (200 + 1) 0 ≠ 0 := (hW.fl hgm (pr_st (hW.rd hgm) (Nat.le_of_ble_eq_true rfl)) 1 (by decide) rfl (by decide))
        obtain ⟨σ32, hc33, hs⟩ := ww_bnd hs
        have hl : lv_has ls 4 [(0, .ref (L 1 0))] := lv_sub hl [1] rfl
        have hp34 : pr σ26 1 0 := (pr_st (hW.rd hgm) (Nat.le_of_ble_eq_true rfl))
        obtain ⟨hc35, hs⟩ := ww_chk hs
        obtain ⟨hs, hck⟩ := ww_ck2 hs
        have hrm1 := hcs.roomC hc35 hck
        refine wa_ci (va_runV (As := [.ref (L 86 (gN_ σ 86))]) (rest := []) ⟨hx, hb, hml, hown, hts⟩ (c_AL_add g l L σ26 σ32 76 0 77 86 (gN_ σ 86) lst_76 eq_86 rfl (pr_st (hW.rd hgm) (Nat.le_of_ble_eq_true rfl)) (pr_dy hc30 rfl rfl) hp31 hc33 hc35) (cwV 1 hts (lw_V q713 q630 q631 q117 q632) rfl rfl rfl hd_J2_add ⟨(Nat.le_of_ble_eq_true rfl), (Nat.le_of_ble_eq_true rfl)⟩) (ww_preV hW (pr_st (hW.rd hgm) (Nat.le_of_ble_eq_true rfl)) (obv_0 rfl) rfl) rfl rfl hl.1 rfl (lv_room (Nat.le_of_ble_eq_true rfl)) dX1_trip_37 hrm1) hW (fun H locs L hx1 hW => ?_)
        have hc36 : v5 < gN_ σ32 85 := Nat.lt_of_lt_of_le hc27 (hx1.2.1 85)
        have hc37 : 0 < gN_ σ32 1 := Nat.lt_of_lt_of_le hc28 (hx1.2.1 1)
        have hc38 : 0 < gN_ σ32 76 := Nat.lt_of_lt_of_le hc29 (hx1.2.1 76)
        have hc39 : (gN_ σ 86) < gN_ σ32 86 := Nat.lt_of_lt_of_le hc30 (hx1.2.1 86)
        have hcs := hcs.call hc35
        have hrm := hrm1
        have hl : lv_has ls 4 [(0, .ref (L 1 0))] := by rw [hx1.at hp34 (by decide)]; exact hl
        have hx0 := hx0.trans hx1
        refine lv_pop hx hb dX1_trip_40 rfl ?_
        refine lv_aload_n hx hb dX1_trip_41 rfl (lv_at hl 0 rfl) ?_
        refine gf_X1_81 hx hb hts hown hW (pr_st (hW.rd hgm) (Nat.le_of_ble_eq_true rfl)) (hW.fl hgm (pr_st (hW.rd hgm) (Nat.le_of_ble_eq_true rfl)) 9 (by decide) rfl (by decide)) dX1_trip_42 ?_
        refine ww_ci (va_runV (As := []) (rest := []) ⟨hx, hb, hml, hown, hts⟩ (c_AL_size g hgm l L σ32 76 0 77 rfl rfl (pr_st (hW.rd hgm) (Nat.le_of_ble_eq_true rfl))) (cwV 0 hts (lw_V q514 q515 q516 q117 q517) rfl rfl rfl hd_J2_size ⟨(Nat.le_of_ble_eq_true rfl), (Nat.le_of_ble_eq_true rfl)⟩) (ww_preV hW (pr_st (hW.rd hgm) (Nat.le_of_ble_eq_true rfl)) (obv_0 rfl) rfl) rfl rfl hl.1 rfl (lv_room (Nat.le_of_ble_eq_true rfl)) dX1_trip_45 hrm) hW (fun H locs hW => ?_)
        refine lv_iconst (v := 1) hx hb dX1_trip_48 (by decide) ?_
        refine lv_isub hx hb dX1_trip_49 ?_
        have hs := ww_S hs
        exact wz_i hx hb hr hlocks hx0 hcs hW (congrArg Prod.fst hs) (congrArg Prod.snd hs) dX1_trip_50
      · have hs := ww_T hs hc11
        refine lv_iconst (v := (-1)) hx hb dX1_trip_22 (by decide) ?_
        have hs := ww_S hs
        exact wz_i hx hb hr hlocks hx0 hcs hW (congrArg Prod.fst hs) (congrArg Prod.snd hs) dX1_trip_23
set_option maxHeartbeats 4000000 in
theorem c_X10_init (g : wg_T) (hgm : gm g = false) (l : Launch) (L : ly_T) (σ : st_T)  (σ_ : st_T) (hs : m_X10_init σ = some σ_) : AV g l yX10_init (ws_ yX10_init cX10_init 2 none) 4 101 [.ref (L 109 0)] L σ  σ_ := by
  refine wbody.met (by decide) (Nat.le_of_ble_eq_true rfl) ?_
  intro p e s m args below meth c ls hx hb hr hml hlocks hts hown hnm hW hl
  have hown : s.vm.findClass RX10 = some m.cls := hown
  obtain ⟨L0, hL0⟩ : ∃ L0, L0 = L := ⟨_, rfl⟩
  obtain ⟨σ0, hσ0⟩ : ∃ σ0, σ0 = σ := ⟨_, rfl⟩
  rw [← hσ0, ← hL0]
  have hx0 : lext L0 σ0 L σ := by rw [hL0, hσ0]; exact lext.refl
  have hcs : bk σ0 σ 0 0 := bk.start hσ0
  have hrm : 0 ≤ cu_ σ_ - cu_ σ0 ∧ 0 ≤ su_ σ_ - su_ σ0 := ⟨Nat.zero_le _, Nat.zero_le _⟩
  have hl : lv_has ls 2 [(0, .ref (L 109 0))] := hl
  unfold m_X10_init at hs
  have hL527 : ∀ (n527 : Nat), ∀ (L : ly_T) (σ : st_T) (x1 : Int32) (H : Heap) (locs : List Loc) (cells slots : Nat) (ls : Array Slot), lext L0 σ0 L σ → bk σ0 σ cells slots → (cells ≤ cu_ σ_ - cu_ σ0 ∧ slots ≤ su_ σ_ - su_ σ0) → wv g L σ s H locs → lv_has ls 2 [(0, .ref (L 109 0)), (1, .int x1)] → (m_X10_init_L527 n527) σ x1 = some σ_ → W p l e (wrA 4 101 σ0 σ_) s m args below meth c H locs cells slots (MQ below (wAv g L0 σ0 σ_) args s (cu_ σ_ - cu_ σ0) (su_ σ_ - su_ σ0) (fun q => gz g ≤ q)) (F0 m 527 ls []) := by
    intro n527
    induction n527 with
    | zero => intro L σ x1 H locs cells slots ls hx0 hcs hrm hW hl hs; rw [m_X10_init_L527] at hs; cases hs
    | succ n527 ih527 =>
      intro L σ x1 H locs cells slots ls hx0 hcs hrm hW hl hs
      rw [m_X10_init_L527] at hs
      refine lv_iload_n hx hb dX10_init_527 rfl (lv_at hl 1 rfl) ?_
      refine lv_bipush (v := 64) hx hb dX10_init_528 (by decide) ?_
      refine lv_icmp_ge (tgt := 546) hx hb dX10_init_530 (by decide) (fun hc1 => ?_) (fun hc1 => ?_)
      · have hs := ww_T hs hc1
        have hs := ww_S hs
        exact wa_v hx hb hr hlocks hx0 hcs hW hs dX10_init_546
      · have hs := ww_F hs hc1
        refine lv_aload_n hx hb dX10_init_533 rfl (lv_at hl 0 rfl) ?_
        obtain ⟨hc2, hs⟩ := ww_chk hs
        obtain ⟨hc3, hs⟩ := ww_chk hs
        refine gf_X10_201 hx hb hts hown hW (pr_dy hc2 rfl rfl) hc3 dX10_init_534 ?_
        refine lv_iload_n hx hb dX10_init_537 rfl (lv_at hl 1 rfl) ?_
        refine lv_iconst (v := 1) hx hb dX10_init_538 (by decide) ?_
        obtain ⟨hc4, hs⟩ := ww_chk hs
        obtain ⟨hc5, hs⟩ := ww_chk hs
        obtain ⟨σ6, e7, hs⟩ := ww_let hs
        refine ww_iast hx hb hW 215 0 (pr_dy hc4 rfl rfl) rfl hc5 dX10_init_539 (fun H locs hW => ?_)
        have hW : wv g L σ6 s H locs := by rw [e7]; exact hW
        obtain ⟨hx0, hcs⟩ := lx_s (σ1 := σ6) hx0 hcs (by rw [e7]; exact kp_E)
        have hc8 : 0 < gN_ σ6 109 := by rw [e7]; exact hc2
        have hc9 : 0 < gN_ σ6 215 := by rw [e7]; exact hc4
        refine lv_iinc (v := (x1 + (1 : Int32))) (lv' := [(1, .int (x1 + (1 : Int32))), (0, .ref (L 109 0))]) hx hb dX10_init_540 hl (k := 1) rfl rfl (by decide) rfl (fun ls hl => ?_)
        refine lv_goto (tgt := 527) hx hb dX10_init_543 (by decide) ?_
        exact ih527 L σ6 (x1 + (1 : Int32)) _ _ _ _ ls hx0 hcs hrm hW (lv_sub hl [1, 0] rfl) hs
  refine lv_aload_n hx hb dX10_init_0 rfl (lv_at hl 0 rfl) ?_
  refine W.objInit hx hb hown (hts _ q1680) (hts _ q159) (hts _ q160) rfl (hl.1.trans hml.symm) rfl dX10_init_1 (Nat.le_of_ble_eq_true rfl) (Nat.le_of_ble_eq_true rfl) ?_
  refine lv_aload_n hx hb dX10_init_4 rfl (lv_at hl 0 rfl) ?_
  refine lv_bipush (v := 64) hx hb dX10_init_5 (by decide) ?_
  obtain ⟨hc10, hs⟩ := ww_chk hs
  have hp11 : pr σ 109 0 := (pr_dy hc10 rfl rfl)
  obtain ⟨σ12, e13, hs⟩ := ww_let hs
  obtain ⟨hs, hck⟩ := ww_ck1 hs
  have hrm1 := hcs.room (σ1 := σ12) (a := 1) (b := 64) (by rw [e13]; rfl) (by rw [e13]; rfl) hck
  refine ww_newa (atype := .int) hx hb (hts _ q201) hW 112 0 64 (Or.inl rfl) sole_112 (Or.inr hgm) rfl rfl rfl (by decide) rfl (Nat.le_of_ble_eq_true rfl) hrm1.1 hrm1.2 dX10_init_7 (fun H L hx1 hW => ?_)
  rw [← e13] at hx1 hW
  have hcs := hcs.more (σ1 := σ12) (a := 1) (b := 64) (by rw [e13]; rfl) (by rw [e13]; rfl)
  have hrm := hrm1
  have hc14 : 0 < gN_ σ12 109 := Nat.lt_of_lt_of_le hc10 (hx1.2.1 109)
  have hc15 : gN_ σ 112 < gN_ σ12 112 := by rw [e13]; exact nA_lt rfl
  rw [show ow_ 112 = 112 from rfl]
  have hl : lv_has ls 2 [(0, .ref (L 109 0))] := by rw [hx1.at hp11 (by decide)]; exact hl
  refine ww_stk (st1 := [.ref (L 112 (gN_ σ 112)), .ref (L 109 0)]) (by rw [hx1.at hp11 (by decide)]) ?_
  have hx0 := hx0.trans hx1
  obtain ⟨hc16, hs⟩ := ww_chk hs
  have hpq : pr σ12 112 (gN_ σ 112) := (pr_dy hc15 rfl rfl)
  rw [hc16] at hpq
  obtain ⟨σ17, e18, hs⟩ := ww_let hs
  refine ww_markF (d := (1, 112, 0)) hx hb hts hown (hnm.trans rfl) hW 109 0 2 0 (pr_dy hc14 rfl rfl) (tgd_1 hpq) (obv_0 rfl) rfl (by decide) (Nat.le_of_ble_eq_true rfl) in_X10 tyX10_ok nmX10 rfl (Nat.le_of_ble_eq_true rfl) (hts _ q1695) (fun _ h => h) rfl rfl rfl (fun _ => rfl) (fun _ => rfl) (by rw [hc16]; rfl) dX10_init_9 (fun H locs hW => ?_)
  have hW : wv g L σ17 s H locs := by rw [e18]; exact hW
  obtain ⟨hx0, hcs⟩ := lx_s (σ1 := σ17) hx0 hcs (by rw [e18]; exact (kp_M (by decide)))
  have hc19 : 0 < gN_ σ17 109 := by rw [e18]; exact hc14
  have hc20 : (gN_ σ 112) < gN_ σ17 112 := by rw [e18]; exact hc15
  refine lv_aload_n hx hb dX10_init_12 rfl (lv_at hl 0 rfl) ?_
  refine lv_bipush (v := 64) hx hb dX10_init_13 (by decide) ?_
  have hp21 : pr σ17 109 0 := (pr_dy hc19 rfl rfl)
  obtain ⟨σ22, e23, hs⟩ := ww_let hs
  obtain ⟨hs, hck⟩ := ww_ck1 hs
  have hrm1 := hcs.room (σ1 := σ22) (a := 1) (b := 64) (by rw [e23]; rfl) (by rw [e23]; rfl) hck
  refine ww_newa (atype := .int) hx hb (hts _ q201) hW 113 0 64 (Or.inl rfl) sole_113 (Or.inr hgm) rfl rfl rfl (by decide) rfl (Nat.le_of_ble_eq_true rfl) hrm1.1 hrm1.2 dX10_init_15 (fun H L hx1 hW => ?_)
  rw [← e23] at hx1 hW
  have hcs := hcs.more (σ1 := σ22) (a := 1) (b := 64) (by rw [e23]; rfl) (by rw [e23]; rfl)
  have hrm := hrm1
  have hc24 : 0 < gN_ σ22 109 := Nat.lt_of_lt_of_le hc19 (hx1.2.1 109)
  have hc25 : (gN_ σ 112) < gN_ σ22 112 := Nat.lt_of_lt_of_le hc20 (hx1.2.1 112)
  have hc26 : gN_ σ17 113 < gN_ σ22 113 := by rw [e23]; exact nA_lt rfl
  rw [show ow_ 113 = 113 from rfl]
  have hl : lv_has ls 2 [(0, .ref (L 109 0))] := by rw [hx1.at hp21 (by decide)]; exact hl
  refine ww_stk (st1 := [.ref (L 113 (gN_ σ17 113)), .ref (L 109 0)]) (by rw [hx1.at hp21 (by decide)]) ?_
  have hx0 := hx0.trans hx1
  obtain ⟨hc27, hs⟩ := ww_chk hs
  have hpq : pr σ22 113 (gN_ σ17 113) := (pr_dy hc26 rfl rfl)
  rw [hc27] at hpq
  obtain ⟨σ28, e29, hs⟩ := ww_let hs
  refine ww_markF (d := (1, 113, 0)) hx hb hts hown (hnm.trans rfl) hW 109 0 3 0 (pr_dy hc24 rfl rfl) (tgd_1 hpq) (obv_0 rfl) rfl (by decide) (Nat.le_of_ble_eq_true rfl) in_X10 tyX10_ok nmX10 rfl (Nat.le_of_ble_eq_true rfl) (hts _ q1696) (fun _ h => h) rfl rfl rfl (fun _ => rfl) (fun _ => rfl) (by rw [hc27]; rfl) dX10_init_17 (fun H locs hW => ?_)
  have hW : wv g L σ28 s H locs := by rw [e29]; exact hW
  obtain ⟨hx0, hcs⟩ := lx_s (σ1 := σ28) hx0 hcs (by rw [e29]; exact (kp_M (by decide)))
  have hc30 : 0 < gN_ σ28 109 := by rw [e29]; exact hc24
  have hc31 : (gN_ σ 112) < gN_ σ28 112 := by rw [e29]; exact hc25
  have hc32 : (gN_ σ17 113) < gN_ σ28 113 := by rw [e29]; exact hc26
  refine lv_aload_n hx hb dX10_init_20 rfl (lv_at hl 0 rfl) ?_
  refine lv_bipush (v := 64) hx hb dX10_init_21 (by decide) ?_
  have hp33 : pr σ28 109 0 := (pr_dy hc30 rfl rfl)
  obtain ⟨σ34, e35, hs⟩ := ww_let hs
  obtain ⟨hs, hck⟩ := ww_ck1 hs
  have hrm1 := hcs.room (σ1 := σ34) (a := 1) (b := 64) (by rw [e35]; rfl) (by rw [e35]; rfl) hck
  refine ww_newa (atype := .int) hx hb (hts _ q201) hW 114 0 64 (Or.inl rfl) sole_114 (Or.inr hgm) rfl rfl rfl (by decide) rfl (Nat.le_of_ble_eq_true rfl) hrm1.1 hrm1.2 dX10_init_23 (fun H L hx1 hW => ?_)
  rw [← e35] at hx1 hW
  have hcs := hcs.more (σ1 := σ34) (a := 1) (b := 64) (by rw [e35]; rfl) (by rw [e35]; rfl)
  have hrm := hrm1
  have hc36 : 0 < gN_ σ34 109 := Nat.lt_of_lt_of_le hc30 (hx1.2.1 109)
  have hc37 : (gN_ σ 112) < gN_ σ34 112 := Nat.lt_of_lt_of_le hc31 (hx1.2.1 112)
  have hc38 : (gN_ σ17 113) < gN_ σ34 113 := Nat.lt_of_lt_of_le hc32 (hx1.2.1 113)
  have hc39 : gN_ σ28 114 < gN_ σ34 114 := by rw [e35]; exact nA_lt rfl
  rw [show ow_ 114 = 114 from rfl]
  have hl : lv_has ls 2 [(0, .ref (L 109 0))] := by rw [hx1.at hp33 (by decide)]; exact hl
  refine ww_stk (st1 := [.ref (L 114 (gN_ σ28 114)), .ref (L 109 0)]) (by rw [hx1.at hp33 (by decide)]) ?_
  have hx0 := hx0.trans hx1
  obtain ⟨hc40, hs⟩ := ww_chk hs
  have hpq : pr σ34 114 (gN_ σ28 114) := (pr_dy hc39 rfl rfl)
  rw [hc40] at hpq
  obtain ⟨σ41, e42, hs⟩ := ww_let hs
  refine ww_markF (d := (1, 114, 0)) hx hb hts hown (hnm.trans rfl) hW 109 0 4 0 (pr_dy hc36 rfl rfl) (tgd_1 hpq) (obv_0 rfl) rfl (by decide) (Nat.le_of_ble_eq_true rfl) in_X10 tyX10_ok nmX10 rfl (Nat.le_of_ble_eq_true rfl) (hts _ q1697) (fun _ h => h) rfl rfl rfl (fun _ => rfl) (fun _ => rfl) (by rw [hc40]; rfl) dX10_init_25 (fun H locs hW => ?_)
  have hW : wv g L σ41 s H locs := by rw [e42]; exact hW
  obtain ⟨hx0, hcs⟩ := lx_s (σ1 := σ41) hx0 hcs (by rw [e42]; exact (kp_M (by decide)))
  have hc43 : 0 < gN_ σ41 109 := by rw [e42]; exact hc36
  have hc44 : (gN_ σ 112) < gN_ σ41 112 := by rw [e42]; exact hc37
  have hc45 : (gN_ σ17 113) < gN_ σ41 113 := by rw [e42]; exact hc38
  have hc46 : (gN_ σ28 114) < gN_ σ41 114 := by rw [e42]; exact hc39
  refine lv_aload_n hx hb dX10_init_28 rfl (lv_at hl 0 rfl) ?_
  refine lv_bipush (v := 64) hx hb dX10_init_29 (by decide) ?_
  have hp47 : pr σ41 109 0 := (pr_dy hc43 rfl rfl)
  obtain ⟨σ48, e49, hs⟩ := ww_let hs
  obtain ⟨hs, hck⟩ := ww_ck1 hs
  have hrm1 := hcs.room (σ1 := σ48) (a := 1) (b := 64) (by rw [e49]; rfl) (by rw [e49]; rfl) hck
  refine ww_newa (atype := .int) hx hb (hts _ q201) hW 115 0 64 (Or.inl rfl) sole_115 (Or.inr hgm) rfl rfl rfl (by decide) rfl (Nat.le_of_ble_eq_true rfl) hrm1.1 hrm1.2 dX10_init_31 (fun H L hx1 hW => ?_)
  rw [← e49] at hx1 hW
  have hcs := hcs.more (σ1 := σ48) (a := 1) (b := 64) (by rw [e49]; rfl) (by rw [e49]; rfl)
  have hrm := hrm1
  have hc50 : 0 < gN_ σ48 109 := Nat.lt_of_lt_of_le hc43 (hx1.2.1 109)
  have hc51 : (gN_ σ 112) < gN_ σ48 112 := Nat.lt_of_lt_of_le hc44 (hx1.2.1 112)
  have hc52 : (gN_ σ17 113) < gN_ σ48 113 := Nat.lt_of_lt_of_le hc45 (hx1.2.1 113)
  have hc53 : (gN_ σ28 114) < gN_ σ48 114 := Nat.lt_of_lt_of_le hc46 (hx1.2.1 114)
  have hc54 : gN_ σ41 115 < gN_ σ48 115 := by rw [e49]; exact nA_lt rfl
  rw [show ow_ 115 = 115 from rfl]
  have hl : lv_has ls 2 [(0, .ref (L 109 0))] := by rw [hx1.at hp47 (by decide)]; exact hl
  refine ww_stk (st1 := [.ref (L 115 (gN_ σ41 115)), .ref (L 109 0)]) (by rw [hx1.at hp47 (by decide)]) ?_
  have hx0 := hx0.trans hx1
  obtain ⟨hc55, hs⟩ := ww_chk hs
  have hpq : pr σ48 115 (gN_ σ41 115) := (pr_dy hc54 rfl rfl)
  rw [hc55] at hpq
  obtain ⟨σ56, e57, hs⟩ := ww_let hs
  refine ww_markF (d := (1, 115, 0)) hx hb hts hown (hnm.trans rfl) hW 109 0 5 0 (pr_dy hc50 rfl rfl) (tgd_1 hpq) (obv_0 rfl) rfl (by decide) (Nat.le_of_ble_eq_true rfl) in_X10 tyX10_ok nmX10 rfl (Nat.le_of_ble_eq_true rfl) (hts _ q1698) (fun _ h => h) rfl rfl rfl (fun _ => rfl) (fun _ => rfl) (by rw [hc55]; rfl) dX10_init_33 (fun H locs hW => ?_)
  have hW : wv g L σ56 s H locs := by rw [e57]; exact hW
  obtain ⟨hx0, hcs⟩ := lx_s (σ1 := σ56) hx0 hcs (by rw [e57]; exact (kp_M (by decide)))
  have hc58 : 0 < gN_ σ56 109 := by rw [e57]; exact hc50
  have hc59 : (gN_ σ 112) < gN_ σ56 112 := by rw [e57]; exact hc51
  have hc60 : (gN_ σ17 113) < gN_ σ56 113 := by rw [e57]; exact hc52
  have hc61 : (gN_ σ28 114) < gN_ σ56 114 := by rw [e57]; exact hc53
  have hc62 : (gN_ σ41 115) < gN_ σ56 115 := by rw [e57]; exact hc54
  refine lv_aload_n hx hb dX10_init_36 rfl (lv_at hl 0 rfl) ?_
  refine lv_bipush (v := 64) hx hb dX10_init_37 (by decide) ?_
  have hp63 : pr σ56 109 0 := (pr_dy hc58 rfl rfl)
  obtain ⟨σ64, e65, hs⟩ := ww_let hs
  obtain ⟨hs, hck⟩ := ww_ck1 hs
  have hrm1 := hcs.room (σ1 := σ64) (a := 1) (b := 64) (by rw [e65]; rfl) (by rw [e65]; rfl) hck
  refine ww_newa (atype := .int) hx hb (hts _ q201) hW 116 0 64 (Or.inl rfl) sole_116 (Or.inr hgm) rfl rfl rfl (by decide) rfl (Nat.le_of_ble_eq_true rfl) hrm1.1 hrm1.2 dX10_init_39 (fun H L hx1 hW => ?_)
  rw [← e65] at hx1 hW
  have hcs := hcs.more (σ1 := σ64) (a := 1) (b := 64) (by rw [e65]; rfl) (by rw [e65]; rfl)
  have hrm := hrm1
  have hc66 : 0 < gN_ σ64 109 := Nat.lt_of_lt_of_le hc58 (hx1.2.1 109)
  have hc67 : (gN_ σ 112) < gN_ σ64 112 := Nat.lt_of_lt_of_le hc59 (hx1.2.1 112)
  have hc68 : (gN_ σ17 113) < gN_ σ64 113 := Nat.lt_of_lt_of_le hc60 (hx1.2.1 113)
  have hc69 : (gN_ σ28 114) < gN_ σ64 114 := Nat.lt_of_lt_of_le hc61 (hx1.2.1 114)
  have hc70 : (gN_ σ41 115) < gN_ σ64 115 := Nat.lt_of_lt_of_le hc62 (hx1.2.1 115)
  have hc71 : gN_ σ56 116 < gN_ σ64 116 := by rw [e65]; exact nA_lt rfl
  rw [show ow_ 116 = 116 from rfl]
  have hl : lv_has ls 2 [(0, .ref (L 109 0))] := by rw [hx1.at hp63 (by decide)]; exact hl
  refine ww_stk (st1 := [.ref (L 116 (gN_ σ56 116)), .ref (L 109 0)]) (by rw [hx1.at hp63 (by decide)]) ?_
  have hx0 := hx0.trans hx1
  obtain ⟨hc72, hs⟩ := ww_chk hs
  have hpq : pr σ64 116 (gN_ σ56 116) := (pr_dy hc71 rfl rfl)
  rw [hc72] at hpq
  obtain ⟨σ73, e74, hs⟩ := ww_let hs
  refine ww_markF (d := (1, 116, 0)) hx hb hts hown (hnm.trans rfl) hW 109 0 6 0 (pr_dy hc66 rfl rfl) (tgd_1 hpq) (obv_0 rfl) rfl (by decide) (Nat.le_of_ble_eq_true rfl) in_X10 tyX10_ok nmX10 rfl (Nat.le_of_ble_eq_true rfl) (hts _ q1699) (fun _ h => h) rfl rfl rfl (fun _ => rfl) (fun _ => rfl) (by rw [hc72]; rfl) dX10_init_41 (fun H locs hW => ?_)
  have hW : wv g L σ73 s H locs := by rw [e74]; exact hW
  obtain ⟨hx0, hcs⟩ := lx_s (σ1 := σ73) hx0 hcs (by rw [e74]; exact (kp_M (by decide)))
  have hc75 : 0 < gN_ σ73 109 := by rw [e74]; exact hc66
  have hc76 : (gN_ σ 112) < gN_ σ73 112 := by rw [e74]; exact hc67
  have hc77 : (gN_ σ17 113) < gN_ σ73 113 := by rw [e74]; exact hc68
  have hc78 : (gN_ σ28 114) < gN_ σ73 114 := by rw [e74]; exact hc69
  have hc79 : (gN_ σ41 115) < gN_ σ73 115 := by rw [e74]; exact hc70
  have hc80 : (gN_ σ56 116) < gN_ σ73 116 := by rw [e74]; exact hc71
  refine lv_aload_n hx hb dX10_init_44 rfl (lv_at hl 0 rfl) ?_
  refine lv_sipush (v := 128) hx hb dX10_init_45 (by decide) ?_
  have hp81 : pr σ73 109 0 := (pr_dy hc75 rfl rfl)
  obtain ⟨σ82, e83, hs⟩ := ww_let hs
  obtain ⟨hs, hck⟩ := ww_ck1 hs
  have hrm1 := hcs.room (σ1 := σ82) (a := 1) (b := 128) (by rw [e83]; rfl) (by rw [e83]; rfl) hck
  refine ww_newa (atype := .int) hx hb (hts _ q201) hW 117 0 128 (Or.inl rfl) sole_117 (Or.inr hgm) rfl rfl rfl (by decide) rfl (Nat.le_of_ble_eq_true rfl) hrm1.1 hrm1.2 dX10_init_48 (fun H L hx1 hW => ?_)
  rw [← e83] at hx1 hW
  have hcs := hcs.more (σ1 := σ82) (a := 1) (b := 128) (by rw [e83]; rfl) (by rw [e83]; rfl)
  have hrm := hrm1
  have hc84 : 0 < gN_ σ82 109 := Nat.lt_of_lt_of_le hc75 (hx1.2.1 109)
  have hc85 : (gN_ σ 112) < gN_ σ82 112 := Nat.lt_of_lt_of_le hc76 (hx1.2.1 112)
  have hc86 : (gN_ σ17 113) < gN_ σ82 113 := Nat.lt_of_lt_of_le hc77 (hx1.2.1 113)
  have hc87 : (gN_ σ28 114) < gN_ σ82 114 := Nat.lt_of_lt_of_le hc78 (hx1.2.1 114)
  have hc88 : (gN_ σ41 115) < gN_ σ82 115 := Nat.lt_of_lt_of_le hc79 (hx1.2.1 115)
  have hc89 : (gN_ σ56 116) < gN_ σ82 116 := Nat.lt_of_lt_of_le hc80 (hx1.2.1 116)
  have hc90 : gN_ σ73 117 < gN_ σ82 117 := by rw [e83]; exact nA_lt rfl
  rw [show ow_ 117 = 117 from rfl]
  have hl : lv_has ls 2 [(0, .ref (L 109 0))] := by rw [hx1.at hp81 (by decide)]; exact hl
  refine ww_stk (st1 := [.ref (L 117 (gN_ σ73 117)), .ref (L 109 0)]) (by rw [hx1.at hp81 (by decide)]) ?_
  have hx0 := hx0.trans hx1
  obtain ⟨hc91, hs⟩ := ww_chk hs
  have hpq : pr σ82 117 (gN_ σ73 117) := (pr_dy hc90 rfl rfl)
  rw [hc91] at hpq
  obtain ⟨σ92, e93, hs⟩ := ww_let hs
  refine ww_markF (d := (1, 117, 0)) hx hb hts hown (hnm.trans rfl) hW 109 0 7 0 (pr_dy hc84 rfl rfl) (tgd_1 hpq) (obv_0 rfl) rfl (by decide) (Nat.le_of_ble_eq_true rfl) in_X10 tyX10_ok nmX10 rfl (Nat.le_of_ble_eq_true rfl) (hts _ q1700) (fun _ h => h) rfl rfl rfl (fun _ => rfl) (fun _ => rfl) (by rw [hc91]; rfl) dX10_init_50 (fun H locs hW => ?_)
  have hW : wv g L σ92 s H locs := by rw [e93]; exact hW
  obtain ⟨hx0, hcs⟩ := lx_s (σ1 := σ92) hx0 hcs (by rw [e93]; exact (kp_M (by decide)))
  have hc94 : 0 < gN_ σ92 109 := by rw [e93]; exact hc84
  have hc95 : (gN_ σ 112) < gN_ σ92 112 := by rw [e93]; exact hc85
  have hc96 : (gN_ σ17 113) < gN_ σ92 113 := by rw [e93]; exact hc86
  have hc97 : (gN_ σ28 114) < gN_ σ92 114 := by rw [e93]; exact hc87
  have hc98 : (gN_ σ41 115) < gN_ σ92 115 := by rw [e93]; exact hc88
  have hc99 : (gN_ σ56 116) < gN_ σ92 116 := by rw [e93]; exact hc89
  have hc100 : (gN_ σ73 117) < gN_ σ92 117 := by rw [e93]; exact hc90
  refine lv_aload_n hx hb dX10_init_53 rfl (lv_at hl 0 rfl) ?_
  refine lv_sipush (v := 128) hx hb dX10_init_54 (by decide) ?_
  have hp101 : pr σ92 109 0 := (pr_dy hc94 rfl rfl)
  obtain ⟨σ102, e103, hs⟩ := ww_let hs
  obtain ⟨hs, hck⟩ := ww_ck1 hs
  have hrm1 := hcs.room (σ1 := σ102) (a := 1) (b := 128) (by rw [e103]; rfl) (by rw [e103]; rfl) hck
  refine ww_newa (atype := .int) hx hb (hts _ q201) hW 118 0 128 (Or.inl rfl) sole_118 (Or.inr hgm) rfl rfl rfl (by decide) rfl (Nat.le_of_ble_eq_true rfl) hrm1.1 hrm1.2 dX10_init_57 (fun H L hx1 hW => ?_)
  rw [← e103] at hx1 hW
  have hcs := hcs.more (σ1 := σ102) (a := 1) (b := 128) (by rw [e103]; rfl) (by rw [e103]; rfl)
  have hrm := hrm1
  have hc104 : 0 < gN_ σ102 109 := Nat.lt_of_lt_of_le hc94 (hx1.2.1 109)
  have hc105 : (gN_ σ 112) < gN_ σ102 112 := Nat.lt_of_lt_of_le hc95 (hx1.2.1 112)
  have hc106 : (gN_ σ17 113) < gN_ σ102 113 := Nat.lt_of_lt_of_le hc96 (hx1.2.1 113)
  have hc107 : (gN_ σ28 114) < gN_ σ102 114 := Nat.lt_of_lt_of_le hc97 (hx1.2.1 114)
  have hc108 : (gN_ σ41 115) < gN_ σ102 115 := Nat.lt_of_lt_of_le hc98 (hx1.2.1 115)
  have hc109 : (gN_ σ56 116) < gN_ σ102 116 := Nat.lt_of_lt_of_le hc99 (hx1.2.1 116)
  have hc110 : (gN_ σ73 117) < gN_ σ102 117 := Nat.lt_of_lt_of_le hc100 (hx1.2.1 117)
  have hc111 : gN_ σ92 118 < gN_ σ102 118 := by rw [e103]; exact nA_lt rfl
  rw [show ow_ 118 = 118 from rfl]
  have hl : lv_has ls 2 [(0, .ref (L 109 0))] := by rw [hx1.at hp101 (by decide)]; exact hl
  refine ww_stk (st1 := [.ref (L 118 (gN_ σ92 118)), .ref (L 109 0)]) (by rw [hx1.at hp101 (by decide)]) ?_
  have hx0 := hx0.trans hx1
  obtain ⟨hc112, hs⟩ := ww_chk hs
  have hpq : pr σ102 118 (gN_ σ92 118) := (pr_dy hc111 rfl rfl)
  rw [hc112] at hpq
  obtain ⟨σ113, e114, hs⟩ := ww_let hs
  refine ww_markF (d := (1, 118, 0)) hx hb hts hown (hnm.trans rfl) hW 109 0 8 0 (pr_dy hc104 rfl rfl) (tgd_1 hpq) (obv_0 rfl) rfl (by decide) (Nat.le_of_ble_eq_true rfl) in_X10 tyX10_ok nmX10 rfl (Nat.le_of_ble_eq_true rfl) (hts _ q1701) (fun _ h => h) rfl rfl rfl (fun _ => rfl) (fun _ => rfl) (by rw [hc112]; rfl) dX10_init_59 (fun H locs hW => ?_)
  have hW : wv g L σ113 s H locs := by rw [e114]; exact hW
  obtain ⟨hx0, hcs⟩ := lx_s (σ1 := σ113) hx0 hcs (by rw [e114]; exact (kp_M (by decide)))
  have hc115 : 0 < gN_ σ113 109 := by rw [e114]; exact hc104
  have hc116 : (gN_ σ 112) < gN_ σ113 112 := by rw [e114]; exact hc105
  have hc117 : (gN_ σ17 113) < gN_ σ113 113 := by rw [e114]; exact hc106
  have hc118 : (gN_ σ28 114) < gN_ σ113 114 := by rw [e114]; exact hc107
  have hc119 : (gN_ σ41 115) < gN_ σ113 115 := by rw [e114]; exact hc108
  have hc120 : (gN_ σ56 116) < gN_ σ113 116 := by rw [e114]; exact hc109
  have hc121 : (gN_ σ73 117) < gN_ σ113 117 := by rw [e114]; exact hc110
  have hc122 : (gN_ σ92 118) < gN_ σ113 118 := by rw [e114]; exact hc111
  refine lv_aload_n hx hb dX10_init_62 rfl (lv_at hl 0 rfl) ?_
  refine lv_bipush (v := 10) hx hb dX10_init_63 (by decide) ?_
  have hp123 : pr σ113 109 0 := (pr_dy hc115 rfl rfl)
  obtain ⟨σ124, e125, hs⟩ := ww_let hs
  obtain ⟨hs, hck⟩ := ww_ck1 hs
  have hrm1 := hcs.room (σ1 := σ124) (a := 1) (b := 10) (by rw [e125]; rfl) (by rw [e125]; rfl) hck
  refine ww_newa (atype := .int) hx hb (hts _ q201) hW 119 0 10 (Or.inl rfl) sole_119 (Or.inr hgm) rfl rfl rfl (by decide) rfl (Nat.le_of_ble_eq_true rfl) hrm1.1 hrm1.2 dX10_init_65 (fun H L hx1 hW => ?_)
  rw [← e125] at hx1 hW
  have hcs := hcs.more (σ1 := σ124) (a := 1) (b := 10) (by rw [e125]; rfl) (by rw [e125]; rfl)
  have hrm := hrm1
  have hc126 : 0 < gN_ σ124 109 := Nat.lt_of_lt_of_le hc115 (hx1.2.1 109)
  have hc127 : (gN_ σ 112) < gN_ σ124 112 := Nat.lt_of_lt_of_le hc116 (hx1.2.1 112)
  have hc128 : (gN_ σ17 113) < gN_ σ124 113 := Nat.lt_of_lt_of_le hc117 (hx1.2.1 113)
  have hc129 : (gN_ σ28 114) < gN_ σ124 114 := Nat.lt_of_lt_of_le hc118 (hx1.2.1 114)
  have hc130 : (gN_ σ41 115) < gN_ σ124 115 := Nat.lt_of_lt_of_le hc119 (hx1.2.1 115)
  have hc131 : (gN_ σ56 116) < gN_ σ124 116 := Nat.lt_of_lt_of_le hc120 (hx1.2.1 116)
  have hc132 : (gN_ σ73 117) < gN_ σ124 117 := Nat.lt_of_lt_of_le hc121 (hx1.2.1 117)
  have hc133 : (gN_ σ92 118) < gN_ σ124 118 := Nat.lt_of_lt_of_le hc122 (hx1.2.1 118)
  have hc134 : gN_ σ113 119 < gN_ σ124 119 := by rw [e125]; exact nA_lt rfl
  rw [show ow_ 119 = 119 from rfl]
  have hl : lv_has ls 2 [(0, .ref (L 109 0))] := by rw [hx1.at hp123 (by decide)]; exact hl
  refine ww_stk (st1 := [.ref (L 119 (gN_ σ113 119)), .ref (L 109 0)]) (by rw [hx1.at hp123 (by decide)]) ?_
  have hx0 := hx0.trans hx1
  obtain ⟨hc135, hs⟩ := ww_chk hs
  have hpq : pr σ124 119 (gN_ σ113 119) := (pr_dy hc134 rfl rfl)
  rw [hc135] at hpq
  obtain ⟨σ136, e137, hs⟩ := ww_let hs
  refine ww_markF (d := (1, 119, 0)) hx hb hts hown (hnm.trans rfl) hW 109 0 9 0 (pr_dy hc126 rfl rfl) (tgd_1 hpq) (obv_0 rfl) rfl (by decide) (Nat.le_of_ble_eq_true rfl) in_X10 tyX10_ok nmX10 rfl (Nat.le_of_ble_eq_true rfl) (hts _ q1702) (fun _ h => h) rfl rfl rfl (fun _ => rfl) (fun _ => rfl) (by rw [hc135]; rfl) dX10_init_67 (fun H locs hW => ?_)
  have hW : wv g L σ136 s H locs := by rw [e137]; exact hW
  obtain ⟨hx0, hcs⟩ := lx_s (σ1 := σ136) hx0 hcs (by rw [e137]; exact (kp_M (by decide)))
  have hc138 : 0 < gN_ σ136 109 := by rw [e137]; exact hc126
  have hc139 : (gN_ σ 112) < gN_ σ136 112 := by rw [e137]; exact hc127
  have hc140 : (gN_ σ17 113) < gN_ σ136 113 := by rw [e137]; exact hc128
  have hc141 : (gN_ σ28 114) < gN_ σ136 114 := by rw [e137]; exact hc129
  have hc142 : (gN_ σ41 115) < gN_ σ136 115 := by rw [e137]; exact hc130
  have hc143 : (gN_ σ56 116) < gN_ σ136 116 := by rw [e137]; exact hc131
  have hc144 : (gN_ σ73 117) < gN_ σ136 117 := by rw [e137]; exact hc132
  have hc145 : (gN_ σ92 118) < gN_ σ136 118 := by rw [e137]; exact hc133
  have hc146 : (gN_ σ113 119) < gN_ σ136 119 := by rw [e137]; exact hc134
  refine lv_aload_n hx hb dX10_init_70 rfl (lv_at hl 0 rfl) ?_
  refine lv_sipush (v := 400) hx hb dX10_init_71 (by decide) ?_
  have hp147 : pr σ136 109 0 := (pr_dy hc138 rfl rfl)
  obtain ⟨σ148, e149, hs⟩ := ww_let hs
  obtain ⟨hs, hck⟩ := ww_ck1 hs
  have hrm1 := hcs.room (σ1 := σ148) (a := 1) (b := 400) (by rw [e149]; rfl) (by rw [e149]; rfl) hck
  refine ww_newa (atype := .int) hx hb (hts _ q201) hW 127 0 400 (Or.inl rfl) sole_127 (Or.inr hgm) rfl rfl rfl (by decide) rfl (Nat.le_of_ble_eq_true rfl) hrm1.1 hrm1.2 dX10_init_74 (fun H L hx1 hW => ?_)
  rw [← e149] at hx1 hW
  have hcs := hcs.more (σ1 := σ148) (a := 1) (b := 400) (by rw [e149]; rfl) (by rw [e149]; rfl)
  have hrm := hrm1
  have hc150 : 0 < gN_ σ148 109 := Nat.lt_of_lt_of_le hc138 (hx1.2.1 109)
  have hc151 : (gN_ σ 112) < gN_ σ148 112 := Nat.lt_of_lt_of_le hc139 (hx1.2.1 112)
  have hc152 : (gN_ σ17 113) < gN_ σ148 113 := Nat.lt_of_lt_of_le hc140 (hx1.2.1 113)
  have hc153 : (gN_ σ28 114) < gN_ σ148 114 := Nat.lt_of_lt_of_le hc141 (hx1.2.1 114)
  have hc154 : (gN_ σ41 115) < gN_ σ148 115 := Nat.lt_of_lt_of_le hc142 (hx1.2.1 115)
  have hc155 : (gN_ σ56 116) < gN_ σ148 116 := Nat.lt_of_lt_of_le hc143 (hx1.2.1 116)
  have hc156 : (gN_ σ73 117) < gN_ σ148 117 := Nat.lt_of_lt_of_le hc144 (hx1.2.1 117)
  have hc157 : (gN_ σ92 118) < gN_ σ148 118 := Nat.lt_of_lt_of_le hc145 (hx1.2.1 118)
  have hc158 : (gN_ σ113 119) < gN_ σ148 119 := Nat.lt_of_lt_of_le hc146 (hx1.2.1 119)
  have hc159 : gN_ σ136 127 < gN_ σ148 127 := by rw [e149]; exact nA_lt rfl
  rw [show ow_ 127 = 127 from rfl]
  have hl : lv_has ls 2 [(0, .ref (L 109 0))] := by rw [hx1.at hp147 (by decide)]; exact hl
  refine ww_stk (st1 := [.ref (L 127 (gN_ σ136 127)), .ref (L 109 0)]) (by rw [hx1.at hp147 (by decide)]) ?_
  have hx0 := hx0.trans hx1
  obtain ⟨hc160, hs⟩ := ww_chk hs
  have hpq : pr σ148 127 (gN_ σ136 127) := (pr_dy hc159 rfl rfl)
  rw [hc160] at hpq
  obtain ⟨σ161, e162, hs⟩ := ww_let hs
  refine ww_markF (d := (1, 127, 0)) hx hb hts hown (hnm.trans rfl) hW 109 0 17 0 (pr_dy hc150 rfl rfl) (tgd_1 hpq) (obv_0 rfl) rfl (by decide) (Nat.le_of_ble_eq_true rfl) in_X10 tyX10_ok nmX10 rfl (Nat.le_of_ble_eq_true rfl) (hts _ q1710) (fun _ h => h) rfl rfl rfl (fun _ => rfl) (fun _ => rfl) (by rw [hc160]; rfl) dX10_init_76 (fun H locs hW => ?_)
  have hW : wv g L σ161 s H locs := by rw [e162]; exact hW
  obtain ⟨hx0, hcs⟩ := lx_s (σ1 := σ161) hx0 hcs (by rw [e162]; exact (kp_M (by decide)))
  have hc163 : 0 < gN_ σ161 109 := by rw [e162]; exact hc150
  have hc164 : (gN_ σ 112) < gN_ σ161 112 := by rw [e162]; exact hc151
  have hc165 : (gN_ σ17 113) < gN_ σ161 113 := by rw [e162]; exact hc152
  have hc166 : (gN_ σ28 114) < gN_ σ161 114 := by rw [e162]; exact hc153
  have hc167 : (gN_ σ41 115) < gN_ σ161 115 := by rw [e162]; exact hc154
  have hc168 : (gN_ σ56 116) < gN_ σ161 116 := by rw [e162]; exact hc155
  have hc169 : (gN_ σ73 117) < gN_ σ161 117 := by rw [e162]; exact hc156
  have hc170 : (gN_ σ92 118) < gN_ σ161 118 := by rw [e162]; exact hc157
  have hc171 : (gN_ σ113 119) < gN_ σ161 119 := by rw [e162]; exact hc158
  have hc172 : (gN_ σ136 127) < gN_ σ161 127 := by rw [e162]; exact hc159
  refine lv_aload_n hx hb dX10_init_79 rfl (lv_at hl 0 rfl) ?_
  refine lv_sipush (v := 400) hx hb dX10_init_80 (by decide) ?_
  have hp173 : pr σ161 109 0 := (pr_dy hc163 rfl rfl)
  obtain ⟨σ174, e175, hs⟩ := ww_let hs
  obtain ⟨hs, hck⟩ := ww_ck1 hs
  have hrm1 := hcs.room (σ1 := σ174) (a := 1) (b := 400) (by rw [e175]; rfl) (by rw [e175]; rfl) hck
  refine ww_newa (atype := .int) hx hb (hts _ q201) hW 128 0 400 (Or.inl rfl) sole_128 (Or.inr hgm) rfl rfl rfl (by decide) rfl (Nat.le_of_ble_eq_true rfl) hrm1.1 hrm1.2 dX10_init_83 (fun H L hx1 hW => ?_)
  rw [← e175] at hx1 hW
  have hcs := hcs.more (σ1 := σ174) (a := 1) (b := 400) (by rw [e175]; rfl) (by rw [e175]; rfl)
  have hrm := hrm1
  have hc176 : 0 < gN_ σ174 109 := Nat.lt_of_lt_of_le hc163 (hx1.2.1 109)
  have hc177 : (gN_ σ 112) < gN_ σ174 112 := Nat.lt_of_lt_of_le hc164 (hx1.2.1 112)
  have hc178 : (gN_ σ17 113) < gN_ σ174 113 := Nat.lt_of_lt_of_le hc165 (hx1.2.1 113)
  have hc179 : (gN_ σ28 114) < gN_ σ174 114 := Nat.lt_of_lt_of_le hc166 (hx1.2.1 114)
  have hc180 : (gN_ σ41 115) < gN_ σ174 115 := Nat.lt_of_lt_of_le hc167 (hx1.2.1 115)
  have hc181 : (gN_ σ56 116) < gN_ σ174 116 := Nat.lt_of_lt_of_le hc168 (hx1.2.1 116)
  have hc182 : (gN_ σ73 117) < gN_ σ174 117 := Nat.lt_of_lt_of_le hc169 (hx1.2.1 117)
  have hc183 : (gN_ σ92 118) < gN_ σ174 118 := Nat.lt_of_lt_of_le hc170 (hx1.2.1 118)
  have hc184 : (gN_ σ113 119) < gN_ σ174 119 := Nat.lt_of_lt_of_le hc171 (hx1.2.1 119)
  have hc185 : (gN_ σ136 127) < gN_ σ174 127 := Nat.lt_of_lt_of_le hc172 (hx1.2.1 127)
  have hc186 : gN_ σ161 128 < gN_ σ174 128 := by rw [e175]; exact nA_lt rfl
  rw [show ow_ 128 = 128 from rfl]
  have hl : lv_has ls 2 [(0, .ref (L 109 0))] := by rw [hx1.at hp173 (by decide)]; exact hl
  refine ww_stk (st1 := [.ref (L 128 (gN_ σ161 128)), .ref (L 109 0)]) (by rw [hx1.at hp173 (by decide)]) ?_
  have hx0 := hx0.trans hx1
  obtain ⟨hc187, hs⟩ := ww_chk hs
  have hpq : pr σ174 128 (gN_ σ161 128) := (pr_dy hc186 rfl rfl)
  rw [hc187] at hpq
  obtain ⟨σ188, e189, hs⟩ := ww_let hs
  refine ww_markF (d := (1, 128, 0)) hx hb hts hown (hnm.trans rfl) hW 109 0 18 0 (pr_dy hc176 rfl rfl) (tgd_1 hpq) (obv_0 rfl) rfl (by decide) (Nat.le_of_ble_eq_true rfl) in_X10 tyX10_ok nmX10 rfl (Nat.le_of_ble_eq_true rfl) (hts _ q1711) (fun _ h => h) rfl rfl rfl (fun _ => rfl) (fun _ => rfl) (by rw [hc187]; rfl) dX10_init_85 (fun H locs hW => ?_)
  have hW : wv g L σ188 s H locs := by rw [e189]; exact hW
  obtain ⟨hx0, hcs⟩ := lx_s (σ1 := σ188) hx0 hcs (by rw [e189]; exact (kp_M (by decide)))
  have hc190 : 0 < gN_ σ188 109 := by rw [e189]; exact hc176
  have hc191 : (gN_ σ 112) < gN_ σ188 112 := by rw [e189]; exact hc177
  have hc192 : (gN_ σ17 113) < gN_ σ188 113 := by rw [e189]; exact hc178
  have hc193 : (gN_ σ28 114) < gN_ σ188 114 := by rw [e189]; exact hc179
  have hc194 : (gN_ σ41 115) < gN_ σ188 115 := by rw [e189]; exact hc180
  have hc195 : (gN_ σ56 116) < gN_ σ188 116 := by rw [e189]; exact hc181
  have hc196 : (gN_ σ73 117) < gN_ σ188 117 := by rw [e189]; exact hc182
  have hc197 : (gN_ σ92 118) < gN_ σ188 118 := by rw [e189]; exact hc183
  have hc198 : (gN_ σ113 119) < gN_ σ188 119 := by rw [e189]; exact hc184
  have hc199 : (gN_ σ136 127) < gN_ σ188 127 := by rw [e189]; exact hc185
  have hc200 : (gN_ σ161 128) < gN_ σ188 128 := by rw [e189]; exact hc186
  refine lv_aload_n hx hb dX10_init_88 rfl (lv_at hl 0 rfl) ?_
  refine lv_sipush (v := 400) hx hb dX10_init_89 (by decide) ?_
  have hp201 : pr σ188 109 0 := (pr_dy hc190 rfl rfl)
  obtain ⟨σ202, e203, hs⟩ := ww_let hs
  obtain ⟨hs, hck⟩ := ww_ck1 hs
  have hrm1 := hcs.room (σ1 := σ202) (a := 1) (b := 400) (by rw [e203]; rfl) (by rw [e203]; rfl) hck
  refine ww_newa (atype := .int) hx hb (hts _ q201) hW 129 0 400 (Or.inl rfl) sole_129 (Or.inr hgm) rfl rfl rfl (by decide) rfl (Nat.le_of_ble_eq_true rfl) hrm1.1 hrm1.2 dX10_init_92 (fun H L hx1 hW => ?_)
  rw [← e203] at hx1 hW
  have hcs := hcs.more (σ1 := σ202) (a := 1) (b := 400) (by rw [e203]; rfl) (by rw [e203]; rfl)
  have hrm := hrm1
  have hc204 : 0 < gN_ σ202 109 := Nat.lt_of_lt_of_le hc190 (hx1.2.1 109)
  have hc205 : (gN_ σ 112) < gN_ σ202 112 := Nat.lt_of_lt_of_le hc191 (hx1.2.1 112)
  have hc206 : (gN_ σ17 113) < gN_ σ202 113 := Nat.lt_of_lt_of_le hc192 (hx1.2.1 113)
  have hc207 : (gN_ σ28 114) < gN_ σ202 114 := Nat.lt_of_lt_of_le hc193 (hx1.2.1 114)
  have hc208 : (gN_ σ41 115) < gN_ σ202 115 := Nat.lt_of_lt_of_le hc194 (hx1.2.1 115)
  have hc209 : (gN_ σ56 116) < gN_ σ202 116 := Nat.lt_of_lt_of_le hc195 (hx1.2.1 116)
  have hc210 : (gN_ σ73 117) < gN_ σ202 117 := Nat.lt_of_lt_of_le hc196 (hx1.2.1 117)
  have hc211 : (gN_ σ92 118) < gN_ σ202 118 := Nat.lt_of_lt_of_le hc197 (hx1.2.1 118)
  have hc212 : (gN_ σ113 119) < gN_ σ202 119 := Nat.lt_of_lt_of_le hc198 (hx1.2.1 119)
  have hc213 : (gN_ σ136 127) < gN_ σ202 127 := Nat.lt_of_lt_of_le hc199 (hx1.2.1 127)
  have hc214 : (gN_ σ161 128) < gN_ σ202 128 := Nat.lt_of_lt_of_le hc200 (hx1.2.1 128)
  have hc215 : gN_ σ188 129 < gN_ σ202 129 := by rw [e203]; exact nA_lt rfl
  rw [show ow_ 129 = 129 from rfl]
  have hl : lv_has ls 2 [(0, .ref (L 109 0))] := by rw [hx1.at hp201 (by decide)]; exact hl
  refine ww_stk (st1 := [.ref (L 129 (gN_ σ188 129)), .ref (L 109 0)]) (by rw [hx1.at hp201 (by decide)]) ?_
  have hx0 := hx0.trans hx1
  obtain ⟨hc216, hs⟩ := ww_chk hs
  have hpq : pr σ202 129 (gN_ σ188 129) := (pr_dy hc215 rfl rfl)
  rw [hc216] at hpq
  obtain ⟨σ217, e218, hs⟩ := ww_let hs
  refine ww_markF (d := (1, 129, 0)) hx hb hts hown (hnm.trans rfl) hW 109 0 19 0 (pr_dy hc204 rfl rfl) (tgd_1 hpq) (obv_0 rfl) rfl (by decide) (Nat.le_of_ble_eq_true rfl) in_X10 tyX10_ok nmX10 rfl (Nat.le_of_ble_eq_true rfl) (hts _ q1712) (fun _ h => h) rfl rfl rfl (fun _ => rfl) (fun _ => rfl) (by rw [hc216]; rfl) dX10_init_94 (fun H locs hW => ?_)
  have hW : wv g L σ217 s H locs := by rw [e218]; exact hW
  obtain ⟨hx0, hcs⟩ := lx_s (σ1 := σ217) hx0 hcs (by rw [e218]; exact (kp_M (by decide)))
  have hc219 : 0 < gN_ σ217 109 := by rw [e218]; exact hc204
  have hc220 : (gN_ σ 112) < gN_ σ217 112 := by rw [e218]; exact hc205
  have hc221 : (gN_ σ17 113) < gN_ σ217 113 := by rw [e218]; exact hc206
  have hc222 : (gN_ σ28 114) < gN_ σ217 114 := by rw [e218]; exact hc207
  have hc223 : (gN_ σ41 115) < gN_ σ217 115 := by rw [e218]; exact hc208
  have hc224 : (gN_ σ56 116) < gN_ σ217 116 := by rw [e218]; exact hc209
  have hc225 : (gN_ σ73 117) < gN_ σ217 117 := by rw [e218]; exact hc210
  have hc226 : (gN_ σ92 118) < gN_ σ217 118 := by rw [e218]; exact hc211
  have hc227 : (gN_ σ113 119) < gN_ σ217 119 := by rw [e218]; exact hc212
  have hc228 : (gN_ σ136 127) < gN_ σ217 127 := by rw [e218]; exact hc213
  have hc229 : (gN_ σ161 128) < gN_ σ217 128 := by rw [e218]; exact hc214
  have hc230 : (gN_ σ188 129) < gN_ σ217 129 := by rw [e218]; exact hc215
  refine lv_aload_n hx hb dX10_init_97 rfl (lv_at hl 0 rfl) ?_
  refine lv_sipush (v := 400) hx hb dX10_init_98 (by decide) ?_
  have hp231 : pr σ217 109 0 := (pr_dy hc219 rfl rfl)
  obtain ⟨σ232, e233, hs⟩ := ww_let hs
  obtain ⟨hs, hck⟩ := ww_ck1 hs
  have hrm1 := hcs.room (σ1 := σ232) (a := 1) (b := 400) (by rw [e233]; rfl) (by rw [e233]; rfl) hck
  refine ww_newa (atype := .int) hx hb (hts _ q201) hW 130 0 400 (Or.inl rfl) sole_130 (Or.inr hgm) rfl rfl rfl (by decide) rfl (Nat.le_of_ble_eq_true rfl) hrm1.1 hrm1.2 dX10_init_101 (fun H L hx1 hW => ?_)
  rw [← e233] at hx1 hW
  have hcs := hcs.more (σ1 := σ232) (a := 1) (b := 400) (by rw [e233]; rfl) (by rw [e233]; rfl)
  have hrm := hrm1
  have hc234 : 0 < gN_ σ232 109 := Nat.lt_of_lt_of_le hc219 (hx1.2.1 109)
  have hc235 : (gN_ σ 112) < gN_ σ232 112 := Nat.lt_of_lt_of_le hc220 (hx1.2.1 112)
  have hc236 : (gN_ σ17 113) < gN_ σ232 113 := Nat.lt_of_lt_of_le hc221 (hx1.2.1 113)
  have hc237 : (gN_ σ28 114) < gN_ σ232 114 := Nat.lt_of_lt_of_le hc222 (hx1.2.1 114)
  have hc238 : (gN_ σ41 115) < gN_ σ232 115 := Nat.lt_of_lt_of_le hc223 (hx1.2.1 115)
  have hc239 : (gN_ σ56 116) < gN_ σ232 116 := Nat.lt_of_lt_of_le hc224 (hx1.2.1 116)
  have hc240 : (gN_ σ73 117) < gN_ σ232 117 := Nat.lt_of_lt_of_le hc225 (hx1.2.1 117)
  have hc241 : (gN_ σ92 118) < gN_ σ232 118 := Nat.lt_of_lt_of_le hc226 (hx1.2.1 118)
  have hc242 : (gN_ σ113 119) < gN_ σ232 119 := Nat.lt_of_lt_of_le hc227 (hx1.2.1 119)
  have hc243 : (gN_ σ136 127) < gN_ σ232 127 := Nat.lt_of_lt_of_le hc228 (hx1.2.1 127)
  have hc244 : (gN_ σ161 128) < gN_ σ232 128 := Nat.lt_of_lt_of_le hc229 (hx1.2.1 128)
  have hc245 : (gN_ σ188 129) < gN_ σ232 129 := Nat.lt_of_lt_of_le hc230 (hx1.2.1 129)
  have hc246 : gN_ σ217 130 < gN_ σ232 130 := by rw [e233]; exact nA_lt rfl
  rw [show ow_ 130 = 130 from rfl]
  have hl : lv_has ls 2 [(0, .ref (L 109 0))] := by rw [hx1.at hp231 (by decide)]; exact hl
  refine ww_stk (st1 := [.ref (L 130 (gN_ σ217 130)), .ref (L 109 0)]) (by rw [hx1.at hp231 (by decide)]) ?_
  have hx0 := hx0.trans hx1
  obtain ⟨hc247, hs⟩ := ww_chk hs
  have hpq : pr σ232 130 (gN_ σ217 130) := (pr_dy hc246 rfl rfl)
  rw [hc247] at hpq
  obtain ⟨σ248, e249, hs⟩ := ww_let hs
  refine ww_markF (d := (1, 130, 0)) hx hb hts hown (hnm.trans rfl) hW 109 0 20 0 (pr_dy hc234 rfl rfl) (tgd_1 hpq) (obv_0 rfl) rfl (by decide) (Nat.le_of_ble_eq_true rfl) in_X10 tyX10_ok nmX10 rfl (Nat.le_of_ble_eq_true rfl) (hts _ q1713) (fun _ h => h) rfl rfl rfl (fun _ => rfl) (fun _ => rfl) (by rw [hc247]; rfl) dX10_init_103 (fun H locs hW => ?_)
  have hW : wv g L σ248 s H locs := by rw [e249]; exact hW
  obtain ⟨hx0, hcs⟩ := lx_s (σ1 := σ248) hx0 hcs (by rw [e249]; exact (kp_M (by decide)))
  have hc250 : 0 < gN_ σ248 109 := by rw [e249]; exact hc234
  have hc251 : (gN_ σ 112) < gN_ σ248 112 := by rw [e249]; exact hc235
  have hc252 : (gN_ σ17 113) < gN_ σ248 113 := by rw [e249]; exact hc236
  have hc253 : (gN_ σ28 114) < gN_ σ248 114 := by rw [e249]; exact hc237
  have hc254 : (gN_ σ41 115) < gN_ σ248 115 := by rw [e249]; exact hc238
  have hc255 : (gN_ σ56 116) < gN_ σ248 116 := by rw [e249]; exact hc239
  have hc256 : (gN_ σ73 117) < gN_ σ248 117 := by rw [e249]; exact hc240
  have hc257 : (gN_ σ92 118) < gN_ σ248 118 := by rw [e249]; exact hc241
  have hc258 : (gN_ σ113 119) < gN_ σ248 119 := by rw [e249]; exact hc242
  have hc259 : (gN_ σ136 127) < gN_ σ248 127 := by rw [e249]; exact hc243
  have hc260 : (gN_ σ161 128) < gN_ σ248 128 := by rw [e249]; exact hc244
  have hc261 : (gN_ σ188 129) < gN_ σ248 129 := by rw [e249]; exact hc245
  have hc262 : (gN_ σ217 130) < gN_ σ248 130 := by rw [e249]; exact hc246
  refine lv_aload_n hx hb dX10_init_106 rfl (lv_at hl 0 rfl) ?_
  refine lv_sipush (v := 400) hx hb dX10_init_107 (by decide) ?_
  have hp263 : pr σ248 109 0 := (pr_dy hc250 rfl rfl)
  obtain ⟨σ264, e265, hs⟩ := ww_let hs
  obtain ⟨hs, hck⟩ := ww_ck1 hs
  have hrm1 := hcs.room (σ1 := σ264) (a := 1) (b := 400) (by rw [e265]; rfl) (by rw [e265]; rfl) hck
  refine ww_newa (atype := .int) hx hb (hts _ q201) hW 131 0 400 (Or.inl rfl) sole_131 (Or.inr hgm) rfl rfl rfl (by decide) rfl (Nat.le_of_ble_eq_true rfl) hrm1.1 hrm1.2 dX10_init_110 (fun H L hx1 hW => ?_)
  rw [← e265] at hx1 hW
  have hcs := hcs.more (σ1 := σ264) (a := 1) (b := 400) (by rw [e265]; rfl) (by rw [e265]; rfl)
  have hrm := hrm1
  have hc266 : 0 < gN_ σ264 109 := Nat.lt_of_lt_of_le hc250 (hx1.2.1 109)
  have hc267 : (gN_ σ 112) < gN_ σ264 112 := Nat.lt_of_lt_of_le hc251 (hx1.2.1 112)
  have hc268 : (gN_ σ17 113) < gN_ σ264 113 := Nat.lt_of_lt_of_le hc252 (hx1.2.1 113)
  have hc269 : (gN_ σ28 114) < gN_ σ264 114 := Nat.lt_of_lt_of_le hc253 (hx1.2.1 114)
  have hc270 : (gN_ σ41 115) < gN_ σ264 115 := Nat.lt_of_lt_of_le hc254 (hx1.2.1 115)
  have hc271 : (gN_ σ56 116) < gN_ σ264 116 := Nat.lt_of_lt_of_le hc255 (hx1.2.1 116)
  have hc272 : (gN_ σ73 117) < gN_ σ264 117 := Nat.lt_of_lt_of_le hc256 (hx1.2.1 117)
  have hc273 : (gN_ σ92 118) < gN_ σ264 118 := Nat.lt_of_lt_of_le hc257 (hx1.2.1 118)
  have hc274 : (gN_ σ113 119) < gN_ σ264 119 := Nat.lt_of_lt_of_le hc258 (hx1.2.1 119)
  have hc275 : (gN_ σ136 127) < gN_ σ264 127 := Nat.lt_of_lt_of_le hc259 (hx1.2.1 127)
  have hc276 : (gN_ σ161 128) < gN_ σ264 128 := Nat.lt_of_lt_of_le hc260 (hx1.2.1 128)
  have hc277 : (gN_ σ188 129) < gN_ σ264 129 := Nat.lt_of_lt_of_le hc261 (hx1.2.1 129)
  have hc278 : (gN_ σ217 130) < gN_ σ264 130 := Nat.lt_of_lt_of_le hc262 (hx1.2.1 130)
  have hc279 : gN_ σ248 131 < gN_ σ264 131 := by rw [e265]; exact nA_lt rfl
  rw [show ow_ 131 = 131 from rfl]
  have hl : lv_has ls 2 [(0, .ref (L 109 0))] := by rw [hx1.at hp263 (by decide)]; exact hl
  refine ww_stk (st1 := [.ref (L 131 (gN_ σ248 131)), .ref (L 109 0)]) (by rw [hx1.at hp263 (by decide)]) ?_
  have hx0 := hx0.trans hx1
  obtain ⟨hc280, hs⟩ := ww_chk hs
  have hpq : pr σ264 131 (gN_ σ248 131) := (pr_dy hc279 rfl rfl)
  rw [hc280] at hpq
  obtain ⟨σ281, e282, hs⟩ := ww_let hs
  refine ww_markF (d := (1, 131, 0)) hx hb hts hown (hnm.trans rfl) hW 109 0 21 0 (pr_dy hc266 rfl rfl) (tgd_1 hpq) (obv_0 rfl) rfl (by decide) (Nat.le_of_ble_eq_true rfl) in_X10 tyX10_ok nmX10 rfl (Nat.le_of_ble_eq_true rfl) (hts _ q1714) (fun _ h => h) rfl rfl rfl (fun _ => rfl) (fun _ => rfl) (by rw [hc280]; rfl) dX10_init_112 (fun H locs hW => ?_)
  have hW : wv g L σ281 s H locs := by rw [e282]; exact hW
  obtain ⟨hx0, hcs⟩ := lx_s (σ1 := σ281) hx0 hcs (by rw [e282]; exact (kp_M (by decide)))
  have hc283 : 0 < gN_ σ281 109 := by rw [e282]; exact hc266
  have hc284 : (gN_ σ 112) < gN_ σ281 112 := by rw [e282]; exact hc267
  have hc285 : (gN_ σ17 113) < gN_ σ281 113 := by rw [e282]; exact hc268
  have hc286 : (gN_ σ28 114) < gN_ σ281 114 := by rw [e282]; exact hc269
  have hc287 : (gN_ σ41 115) < gN_ σ281 115 := by rw [e282]; exact hc270
  have hc288 : (gN_ σ56 116) < gN_ σ281 116 := by rw [e282]; exact hc271
  have hc289 : (gN_ σ73 117) < gN_ σ281 117 := by rw [e282]; exact hc272
  have hc290 : (gN_ σ92 118) < gN_ σ281 118 := by rw [e282]; exact hc273
  have hc291 : (gN_ σ113 119) < gN_ σ281 119 := by rw [e282]; exact hc274
  have hc292 : (gN_ σ136 127) < gN_ σ281 127 := by rw [e282]; exact hc275
  have hc293 : (gN_ σ161 128) < gN_ σ281 128 := by rw [e282]; exact hc276
  have hc294 : (gN_ σ188 129) < gN_ σ281 129 := by rw [e282]; exact hc277
  have hc295 : (gN_ σ217 130) < gN_ σ281 130 := by rw [e282]; exact hc278
  have hc296 : (gN_ σ248 131) < gN_ σ281 131 := by rw [e282]; exact hc279
  refine lv_aload_n hx hb dX10_init_115 rfl (lv_at hl 0 rfl) ?_
  refine lv_bipush (v := 48) hx hb dX10_init_116 (by decide) ?_
  have hp297 : pr σ281 109 0 := (pr_dy hc283 rfl rfl)
  obtain ⟨σ298, e299, hs⟩ := ww_let hs
  obtain ⟨hs, hck⟩ := ww_ck1 hs
  have hrm1 := hcs.room (σ1 := σ298) (a := 1) (b := 48) (by rw [e299]; rfl) (by rw [e299]; rfl) hck
  refine ww_newa (atype := .int) hx hb (hts _ q201) hW 137 0 48 (Or.inl rfl) sole_137 (Or.inr hgm) rfl rfl rfl (by decide) rfl (Nat.le_of_ble_eq_true rfl) hrm1.1 hrm1.2 dX10_init_118 (fun H L hx1 hW => ?_)
  rw [← e299] at hx1 hW
  have hcs := hcs.more (σ1 := σ298) (a := 1) (b := 48) (by rw [e299]; rfl) (by rw [e299]; rfl)
  have hrm := hrm1
  have hc300 : 0 < gN_ σ298 109 := Nat.lt_of_lt_of_le hc283 (hx1.2.1 109)
  have hc301 : (gN_ σ 112) < gN_ σ298 112 := Nat.lt_of_lt_of_le hc284 (hx1.2.1 112)
  have hc302 : (gN_ σ17 113) < gN_ σ298 113 := Nat.lt_of_lt_of_le hc285 (hx1.2.1 113)
  have hc303 : (gN_ σ28 114) < gN_ σ298 114 := Nat.lt_of_lt_of_le hc286 (hx1.2.1 114)
  have hc304 : (gN_ σ41 115) < gN_ σ298 115 := Nat.lt_of_lt_of_le hc287 (hx1.2.1 115)
  have hc305 : (gN_ σ56 116) < gN_ σ298 116 := Nat.lt_of_lt_of_le hc288 (hx1.2.1 116)
  have hc306 : (gN_ σ73 117) < gN_ σ298 117 := Nat.lt_of_lt_of_le hc289 (hx1.2.1 117)
  have hc307 : (gN_ σ92 118) < gN_ σ298 118 := Nat.lt_of_lt_of_le hc290 (hx1.2.1 118)
  have hc308 : (gN_ σ113 119) < gN_ σ298 119 := Nat.lt_of_lt_of_le hc291 (hx1.2.1 119)
  have hc309 : (gN_ σ136 127) < gN_ σ298 127 := Nat.lt_of_lt_of_le hc292 (hx1.2.1 127)
  have hc310 : (gN_ σ161 128) < gN_ σ298 128 := Nat.lt_of_lt_of_le hc293 (hx1.2.1 128)
  have hc311 : (gN_ σ188 129) < gN_ σ298 129 := Nat.lt_of_lt_of_le hc294 (hx1.2.1 129)
  have hc312 : (gN_ σ217 130) < gN_ σ298 130 := Nat.lt_of_lt_of_le hc295 (hx1.2.1 130)
  have hc313 : (gN_ σ248 131) < gN_ σ298 131 := Nat.lt_of_lt_of_le hc296 (hx1.2.1 131)
  have hc314 : gN_ σ281 137 < gN_ σ298 137 := by rw [e299]; exact nA_lt rfl
  rw [show ow_ 137 = 137 from rfl]
  have hl : lv_has ls 2 [(0, .ref (L 109 0))] := by rw [hx1.at hp297 (by decide)]; exact hl
  refine ww_stk (st1 := [.ref (L 137 (gN_ σ281 137)), .ref (L 109 0)]) (by rw [hx1.at hp297 (by decide)]) ?_
  have hx0 := hx0.trans hx1
  obtain ⟨hc315, hs⟩ := ww_chk hs
  have hpq : pr σ298 137 (gN_ σ281 137) := (pr_dy hc314 rfl rfl)
  rw [hc315] at hpq
  obtain ⟨σ316, e317, hs⟩ := ww_let hs
  refine ww_markF (d := (1, 137, 0)) hx hb hts hown (hnm.trans rfl) hW 109 0 27 0 (pr_dy hc300 rfl rfl) (tgd_1 hpq) (obv_0 rfl) rfl (by decide) (Nat.le_of_ble_eq_true rfl) in_X10 tyX10_ok nmX10 rfl (Nat.le_of_ble_eq_true rfl) (hts _ q1720) (fun _ h => h) rfl rfl rfl (fun _ => rfl) (fun _ => rfl) (by rw [hc315]; rfl) dX10_init_120 (fun H locs hW => ?_)
  have hW : wv g L σ316 s H locs := by rw [e317]; exact hW
  obtain ⟨hx0, hcs⟩ := lx_s (σ1 := σ316) hx0 hcs (by rw [e317]; exact (kp_M (by decide)))
  have hc318 : 0 < gN_ σ316 109 := by rw [e317]; exact hc300
  have hc319 : (gN_ σ 112) < gN_ σ316 112 := by rw [e317]; exact hc301
  have hc320 : (gN_ σ17 113) < gN_ σ316 113 := by rw [e317]; exact hc302
  have hc321 : (gN_ σ28 114) < gN_ σ316 114 := by rw [e317]; exact hc303
  have hc322 : (gN_ σ41 115) < gN_ σ316 115 := by rw [e317]; exact hc304
  have hc323 : (gN_ σ56 116) < gN_ σ316 116 := by rw [e317]; exact hc305
  have hc324 : (gN_ σ73 117) < gN_ σ316 117 := by rw [e317]; exact hc306
  have hc325 : (gN_ σ92 118) < gN_ σ316 118 := by rw [e317]; exact hc307
  have hc326 : (gN_ σ113 119) < gN_ σ316 119 := by rw [e317]; exact hc308
  have hc327 : (gN_ σ136 127) < gN_ σ316 127 := by rw [e317]; exact hc309
  have hc328 : (gN_ σ161 128) < gN_ σ316 128 := by rw [e317]; exact hc310
  have hc329 : (gN_ σ188 129) < gN_ σ316 129 := by rw [e317]; exact hc311
  have hc330 : (gN_ σ217 130) < gN_ σ316 130 := by rw [e317]; exact hc312
  have hc331 : (gN_ σ248 131) < gN_ σ316 131 := by rw [e317]; exact hc313
  have hc332 : (gN_ σ281 137) < gN_ σ316 137 := by rw [e317]; exact hc314
  refine lv_aload_n hx hb dX10_init_123 rfl (lv_at hl 0 rfl) ?_
  refine lv_iconst (v := 4) hx hb dX10_init_124 (by decide) ?_
  have hp333 : pr σ316 109 0 := (pr_dy hc318 rfl rfl)
  obtain ⟨σ334, e335, hs⟩ := ww_let hs
  obtain ⟨hs, hck⟩ := ww_ck1 hs
  have hrm1 := hcs.room (σ1 := σ334) (a := 1) (b := 4) (by rw [e335]; rfl) (by rw [e335]; rfl) hck
  refine ww_newa (atype := .int) hx hb (hts _ q201) hW 138 0 4 (Or.inl rfl) sole_138 (Or.inr hgm) rfl rfl rfl (by decide) rfl (Nat.le_of_ble_eq_true rfl) hrm1.1 hrm1.2 dX10_init_125 (fun H L hx1 hW => ?_)
  rw [← e335] at hx1 hW
  have hcs := hcs.more (σ1 := σ334) (a := 1) (b := 4) (by rw [e335]; rfl) (by rw [e335]; rfl)
  have hrm := hrm1
  have hc336 : 0 < gN_ σ334 109 := Nat.lt_of_lt_of_le hc318 (hx1.2.1 109)
  have hc337 : (gN_ σ 112) < gN_ σ334 112 := Nat.lt_of_lt_of_le hc319 (hx1.2.1 112)
  have hc338 : (gN_ σ17 113) < gN_ σ334 113 := Nat.lt_of_lt_of_le hc320 (hx1.2.1 113)
  have hc339 : (gN_ σ28 114) < gN_ σ334 114 := Nat.lt_of_lt_of_le hc321 (hx1.2.1 114)
  have hc340 : (gN_ σ41 115) < gN_ σ334 115 := Nat.lt_of_lt_of_le hc322 (hx1.2.1 115)
  have hc341 : (gN_ σ56 116) < gN_ σ334 116 := Nat.lt_of_lt_of_le hc323 (hx1.2.1 116)
  have hc342 : (gN_ σ73 117) < gN_ σ334 117 := Nat.lt_of_lt_of_le hc324 (hx1.2.1 117)
  have hc343 : (gN_ σ92 118) < gN_ σ334 118 := Nat.lt_of_lt_of_le hc325 (hx1.2.1 118)
  have hc344 : (gN_ σ113 119) < gN_ σ334 119 := Nat.lt_of_lt_of_le hc326 (hx1.2.1 119)
  have hc345 : (gN_ σ136 127) < gN_ σ334 127 := Nat.lt_of_lt_of_le hc327 (hx1.2.1 127)
  have hc346 : (gN_ σ161 128) < gN_ σ334 128 := Nat.lt_of_lt_of_le hc328 (hx1.2.1 128)
  have hc347 : (gN_ σ188 129) < gN_ σ334 129 := Nat.lt_of_lt_of_le hc329 (hx1.2.1 129)
  have hc348 : (gN_ σ217 130) < gN_ σ334 130 := Nat.lt_of_lt_of_le hc330 (hx1.2.1 130)
  have hc349 : (gN_ σ248 131) < gN_ σ334 131 := Nat.lt_of_lt_of_le hc331 (hx1.2.1 131)
  have hc350 : (gN_ σ281 137) < gN_ σ334 137 := Nat.lt_of_lt_of_le hc332 (hx1.2.1 137)
  have hc351 : gN_ σ316 138 < gN_ σ334 138 := by rw [e335]; exact nA_lt rfl
  rw [show ow_ 138 = 138 from rfl]
  have hl : lv_has ls 2 [(0, .ref (L 109 0))] := by rw [hx1.at hp333 (by decide)]; exact hl
  refine ww_stk (st1 := [.ref (L 138 (gN_ σ316 138)), .ref (L 109 0)]) (by rw [hx1.at hp333 (by decide)]) ?_
  have hx0 := hx0.trans hx1
  obtain ⟨hc352, hs⟩ := ww_chk hs
  have hpq : pr σ334 138 (gN_ σ316 138) := (pr_dy hc351 rfl rfl)
  rw [hc352] at hpq
  obtain ⟨σ353, e354, hs⟩ := ww_let hs
  refine ww_markF (d := (1, 138, 0)) hx hb hts hown (hnm.trans rfl) hW 109 0 28 0 (pr_dy hc336 rfl rfl) (tgd_1 hpq) (obv_0 rfl) rfl (by decide) (Nat.le_of_ble_eq_true rfl) in_X10 tyX10_ok nmX10 rfl (Nat.le_of_ble_eq_true rfl) (hts _ q1721) (fun _ h => h) rfl rfl rfl (fun _ => rfl) (fun _ => rfl) (by rw [hc352]; rfl) dX10_init_127 (fun H locs hW => ?_)
  have hW : wv g L σ353 s H locs := by rw [e354]; exact hW
  obtain ⟨hx0, hcs⟩ := lx_s (σ1 := σ353) hx0 hcs (by rw [e354]; exact (kp_M (by decide)))
  have hc355 : 0 < gN_ σ353 109 := by rw [e354]; exact hc336
  have hc356 : (gN_ σ 112) < gN_ σ353 112 := by rw [e354]; exact hc337
  have hc357 : (gN_ σ17 113) < gN_ σ353 113 := by rw [e354]; exact hc338
  have hc358 : (gN_ σ28 114) < gN_ σ353 114 := by rw [e354]; exact hc339
  have hc359 : (gN_ σ41 115) < gN_ σ353 115 := by rw [e354]; exact hc340
  have hc360 : (gN_ σ56 116) < gN_ σ353 116 := by rw [e354]; exact hc341
  have hc361 : (gN_ σ73 117) < gN_ σ353 117 := by rw [e354]; exact hc342
  have hc362 : (gN_ σ92 118) < gN_ σ353 118 := by rw [e354]; exact hc343
  have hc363 : (gN_ σ113 119) < gN_ σ353 119 := by rw [e354]; exact hc344
  have hc364 : (gN_ σ136 127) < gN_ σ353 127 := by rw [e354]; exact hc345
  have hc365 : (gN_ σ161 128) < gN_ σ353 128 := by rw [e354]; exact hc346
  have hc366 : (gN_ σ188 129) < gN_ σ353 129 := by rw [e354]; exact hc347
  have hc367 : (gN_ σ217 130) < gN_ σ353 130 := by rw [e354]; exact hc348
  have hc368 : (gN_ σ248 131) < gN_ σ353 131 := by rw [e354]; exact hc349
  have hc369 : (gN_ σ281 137) < gN_ σ353 137 := by rw [e354]; exact hc350
  have hc370 : (gN_ σ316 138) < gN_ σ353 138 := by rw [e354]; exact hc351
  refine lv_aload_n hx hb dX10_init_130 rfl (lv_at hl 0 rfl) ?_
  refine lv_bipush (v := 48) hx hb dX10_init_131 (by decide) ?_
  have hp371 : pr σ353 109 0 := (pr_dy hc355 rfl rfl)
  obtain ⟨σ372, e373, hs⟩ := ww_let hs
  obtain ⟨hs, hck⟩ := ww_ck1 hs
  have hrm1 := hcs.room (σ1 := σ372) (a := 1) (b := 48) (by rw [e373]; rfl) (by rw [e373]; rfl) hck
  refine ww_newa (atype := .int) hx hb (hts _ q201) hW 145 0 48 (Or.inl rfl) sole_145 (Or.inr hgm) rfl rfl rfl (by decide) rfl (Nat.le_of_ble_eq_true rfl) hrm1.1 hrm1.2 dX10_init_133 (fun H L hx1 hW => ?_)
  rw [← e373] at hx1 hW
  have hcs := hcs.more (σ1 := σ372) (a := 1) (b := 48) (by rw [e373]; rfl) (by rw [e373]; rfl)
  have hrm := hrm1
  have hc374 : 0 < gN_ σ372 109 := Nat.lt_of_lt_of_le hc355 (hx1.2.1 109)
  have hc375 : (gN_ σ 112) < gN_ σ372 112 := Nat.lt_of_lt_of_le hc356 (hx1.2.1 112)
  have hc376 : (gN_ σ17 113) < gN_ σ372 113 := Nat.lt_of_lt_of_le hc357 (hx1.2.1 113)
  have hc377 : (gN_ σ28 114) < gN_ σ372 114 := Nat.lt_of_lt_of_le hc358 (hx1.2.1 114)
  have hc378 : (gN_ σ41 115) < gN_ σ372 115 := Nat.lt_of_lt_of_le hc359 (hx1.2.1 115)
  have hc379 : (gN_ σ56 116) < gN_ σ372 116 := Nat.lt_of_lt_of_le hc360 (hx1.2.1 116)
  have hc380 : (gN_ σ73 117) < gN_ σ372 117 := Nat.lt_of_lt_of_le hc361 (hx1.2.1 117)
  have hc381 : (gN_ σ92 118) < gN_ σ372 118 := Nat.lt_of_lt_of_le hc362 (hx1.2.1 118)
  have hc382 : (gN_ σ113 119) < gN_ σ372 119 := Nat.lt_of_lt_of_le hc363 (hx1.2.1 119)
  have hc383 : (gN_ σ136 127) < gN_ σ372 127 := Nat.lt_of_lt_of_le hc364 (hx1.2.1 127)
  have hc384 : (gN_ σ161 128) < gN_ σ372 128 := Nat.lt_of_lt_of_le hc365 (hx1.2.1 128)
  have hc385 : (gN_ σ188 129) < gN_ σ372 129 := Nat.lt_of_lt_of_le hc366 (hx1.2.1 129)
  have hc386 : (gN_ σ217 130) < gN_ σ372 130 := Nat.lt_of_lt_of_le hc367 (hx1.2.1 130)
  have hc387 : (gN_ σ248 131) < gN_ σ372 131 := Nat.lt_of_lt_of_le hc368 (hx1.2.1 131)
  have hc388 : (gN_ σ281 137) < gN_ σ372 137 := Nat.lt_of_lt_of_le hc369 (hx1.2.1 137)
  have hc389 : (gN_ σ316 138) < gN_ σ372 138 := Nat.lt_of_lt_of_le hc370 (hx1.2.1 138)
  have hc390 : gN_ σ353 145 < gN_ σ372 145 := by rw [e373]; exact nA_lt rfl
  rw [show ow_ 145 = 145 from rfl]
  have hl : lv_has ls 2 [(0, .ref (L 109 0))] := by rw [hx1.at hp371 (by decide)]; exact hl
  refine ww_stk (st1 := [.ref (L 145 (gN_ σ353 145)), .ref (L 109 0)]) (by rw [hx1.at hp371 (by decide)]) ?_
  have hx0 := hx0.trans hx1
  obtain ⟨hc391, hs⟩ := ww_chk hs
  have hpq : pr σ372 145 (gN_ σ353 145) := (pr_dy hc390 rfl rfl)
  rw [hc391] at hpq
  obtain ⟨σ392, e393, hs⟩ := ww_let hs
  refine ww_markF (d := (1, 145, 0)) hx hb hts hown (hnm.trans rfl) hW 109 0 35 0 (pr_dy hc374 rfl rfl) (tgd_1 hpq) (obv_0 rfl) rfl (by decide) (Nat.le_of_ble_eq_true rfl) in_X10 tyX10_ok nmX10 rfl (Nat.le_of_ble_eq_true rfl) (hts _ q1728) (fun _ h => h) rfl rfl rfl (fun _ => rfl) (fun _ => rfl) (by rw [hc391]; rfl) dX10_init_135 (fun H locs hW => ?_)
  have hW : wv g L σ392 s H locs := by rw [e393]; exact hW
  obtain ⟨hx0, hcs⟩ := lx_s (σ1 := σ392) hx0 hcs (by rw [e393]; exact (kp_M (by decide)))
  have hc394 : 0 < gN_ σ392 109 := by rw [e393]; exact hc374
  have hc395 : (gN_ σ 112) < gN_ σ392 112 := by rw [e393]; exact hc375
  have hc396 : (gN_ σ17 113) < gN_ σ392 113 := by rw [e393]; exact hc376
  have hc397 : (gN_ σ28 114) < gN_ σ392 114 := by rw [e393]; exact hc377
  have hc398 : (gN_ σ41 115) < gN_ σ392 115 := by rw [e393]; exact hc378
  have hc399 : (gN_ σ56 116) < gN_ σ392 116 := by rw [e393]; exact hc379
  have hc400 : (gN_ σ73 117) < gN_ σ392 117 := by rw [e393]; exact hc380
  have hc401 : (gN_ σ92 118) < gN_ σ392 118 := by rw [e393]; exact hc381
  have hc402 : (gN_ σ113 119) < gN_ σ392 119 := by rw [e393]; exact hc382
  have hc403 : (gN_ σ136 127) < gN_ σ392 127 := by rw [e393]; exact hc383
  have hc404 : (gN_ σ161 128) < gN_ σ392 128 := by rw [e393]; exact hc384
  have hc405 : (gN_ σ188 129) < gN_ σ392 129 := by rw [e393]; exact hc385
  have hc406 : (gN_ σ217 130) < gN_ σ392 130 := by rw [e393]; exact hc386
  have hc407 : (gN_ σ248 131) < gN_ σ392 131 := by rw [e393]; exact hc387
  have hc408 : (gN_ σ281 137) < gN_ σ392 137 := by rw [e393]; exact hc388
  have hc409 : (gN_ σ316 138) < gN_ σ392 138 := by rw [e393]; exact hc389
  have hc410 : (gN_ σ353 145) < gN_ σ392 145 := by rw [e393]; exact hc390
  refine lv_aload_n hx hb dX10_init_138 rfl (lv_at hl 0 rfl) ?_
  refine lv_iconst (v := 4) hx hb dX10_init_139 (by decide) ?_
  have hp411 : pr σ392 109 0 := (pr_dy hc394 rfl rfl)
  obtain ⟨σ412, e413, hs⟩ := ww_let hs
  obtain ⟨hs, hck⟩ := ww_ck1 hs
  have hrm1 := hcs.room (σ1 := σ412) (a := 1) (b := 4) (by rw [e413]; rfl) (by rw [e413]; rfl) hck
  refine ww_newa (atype := .int) hx hb (hts _ q201) hW 146 0 4 (Or.inl rfl) sole_146 (Or.inr hgm) rfl rfl rfl (by decide) rfl (Nat.le_of_ble_eq_true rfl) hrm1.1 hrm1.2 dX10_init_140 (fun H L hx1 hW => ?_)
  rw [← e413] at hx1 hW
  have hcs := hcs.more (σ1 := σ412) (a := 1) (b := 4) (by rw [e413]; rfl) (by rw [e413]; rfl)
  have hrm := hrm1
  have hc414 : 0 < gN_ σ412 109 := Nat.lt_of_lt_of_le hc394 (hx1.2.1 109)
  have hc415 : (gN_ σ 112) < gN_ σ412 112 := Nat.lt_of_lt_of_le hc395 (hx1.2.1 112)
  have hc416 : (gN_ σ17 113) < gN_ σ412 113 := Nat.lt_of_lt_of_le hc396 (hx1.2.1 113)
  have hc417 : (gN_ σ28 114) < gN_ σ412 114 := Nat.lt_of_lt_of_le hc397 (hx1.2.1 114)
  have hc418 : (gN_ σ41 115) < gN_ σ412 115 := Nat.lt_of_lt_of_le hc398 (hx1.2.1 115)
  have hc419 : (gN_ σ56 116) < gN_ σ412 116 := Nat.lt_of_lt_of_le hc399 (hx1.2.1 116)
  have hc420 : (gN_ σ73 117) < gN_ σ412 117 := Nat.lt_of_lt_of_le hc400 (hx1.2.1 117)
  have hc421 : (gN_ σ92 118) < gN_ σ412 118 := Nat.lt_of_lt_of_le hc401 (hx1.2.1 118)
  have hc422 : (gN_ σ113 119) < gN_ σ412 119 := Nat.lt_of_lt_of_le hc402 (hx1.2.1 119)
  have hc423 : (gN_ σ136 127) < gN_ σ412 127 := Nat.lt_of_lt_of_le hc403 (hx1.2.1 127)
  have hc424 : (gN_ σ161 128) < gN_ σ412 128 := Nat.lt_of_lt_of_le hc404 (hx1.2.1 128)
  have hc425 : (gN_ σ188 129) < gN_ σ412 129 := Nat.lt_of_lt_of_le hc405 (hx1.2.1 129)
  have hc426 : (gN_ σ217 130) < gN_ σ412 130 := Nat.lt_of_lt_of_le hc406 (hx1.2.1 130)
  have hc427 : (gN_ σ248 131) < gN_ σ412 131 := Nat.lt_of_lt_of_le hc407 (hx1.2.1 131)
  have hc428 : (gN_ σ281 137) < gN_ σ412 137 := Nat.lt_of_lt_of_le hc408 (hx1.2.1 137)
  have hc429 : (gN_ σ316 138) < gN_ σ412 138 := Nat.lt_of_lt_of_le hc409 (hx1.2.1 138)
  have hc430 : (gN_ σ353 145) < gN_ σ412 145 := Nat.lt_of_lt_of_le hc410 (hx1.2.1 145)
  have hc431 : gN_ σ392 146 < gN_ σ412 146 := by rw [e413]; exact nA_lt rfl
  rw [show ow_ 146 = 146 from rfl]
  have hl : lv_has ls 2 [(0, .ref (L 109 0))] := by rw [hx1.at hp411 (by decide)]; exact hl
  refine ww_stk (st1 := [.ref (L 146 (gN_ σ392 146)), .ref (L 109 0)]) (by rw [hx1.at hp411 (by decide)]) ?_
  have hx0 := hx0.trans hx1
  obtain ⟨hc432, hs⟩ := ww_chk hs
  have hpq : pr σ412 146 (gN_ σ392 146) := (pr_dy hc431 rfl rfl)
  rw [hc432] at hpq
  obtain ⟨σ433, e434, hs⟩ := ww_let hs
  refine ww_markF (d := (1, 146, 0)) hx hb hts hown (hnm.trans rfl) hW 109 0 36 0 (pr_dy hc414 rfl rfl) (tgd_1 hpq) (obv_0 rfl) rfl (by decide) (Nat.le_of_ble_eq_true rfl) in_X10 tyX10_ok nmX10 rfl (Nat.le_of_ble_eq_true rfl) (hts _ q1729) (fun _ h => h) rfl rfl rfl (fun _ => rfl) (fun _ => rfl) (by rw [hc432]; rfl) dX10_init_142 (fun H locs hW => ?_)
  have hW : wv g L σ433 s H locs := by rw [e434]; exact hW
  obtain ⟨hx0, hcs⟩ := lx_s (σ1 := σ433) hx0 hcs (by rw [e434]; exact (kp_M (by decide)))
  have hc435 : 0 < gN_ σ433 109 := by rw [e434]; exact hc414
  have hc436 : (gN_ σ 112) < gN_ σ433 112 := by rw [e434]; exact hc415
  have hc437 : (gN_ σ17 113) < gN_ σ433 113 := by rw [e434]; exact hc416
  have hc438 : (gN_ σ28 114) < gN_ σ433 114 := by rw [e434]; exact hc417
  have hc439 : (gN_ σ41 115) < gN_ σ433 115 := by rw [e434]; exact hc418
  have hc440 : (gN_ σ56 116) < gN_ σ433 116 := by rw [e434]; exact hc419
  have hc441 : (gN_ σ73 117) < gN_ σ433 117 := by rw [e434]; exact hc420
  have hc442 : (gN_ σ92 118) < gN_ σ433 118 := by rw [e434]; exact hc421
  have hc443 : (gN_ σ113 119) < gN_ σ433 119 := by rw [e434]; exact hc422
  have hc444 : (gN_ σ136 127) < gN_ σ433 127 := by rw [e434]; exact hc423
  have hc445 : (gN_ σ161 128) < gN_ σ433 128 := by rw [e434]; exact hc424
  have hc446 : (gN_ σ188 129) < gN_ σ433 129 := by rw [e434]; exact hc425
  have hc447 : (gN_ σ217 130) < gN_ σ433 130 := by rw [e434]; exact hc426
  have hc448 : (gN_ σ248 131) < gN_ σ433 131 := by rw [e434]; exact hc427
  have hc449 : (gN_ σ281 137) < gN_ σ433 137 := by rw [e434]; exact hc428
  have hc450 : (gN_ σ316 138) < gN_ σ433 138 := by rw [e434]; exact hc429
  have hc451 : (gN_ σ353 145) < gN_ σ433 145 := by rw [e434]; exact hc430
  have hc452 : (gN_ σ392 146) < gN_ σ433 146 := by rw [e434]; exact hc431
  refine lv_aload_n hx hb dX10_init_145 rfl (lv_at hl 0 rfl) ?_
  refine lv_sipush (v := 400) hx hb dX10_init_146 (by decide) ?_
  have hp453 : pr σ433 109 0 := (pr_dy hc435 rfl rfl)
  obtain ⟨σ454, e455, hs⟩ := ww_let hs
  obtain ⟨hs, hck⟩ := ww_ck1 hs
  have hrm1 := hcs.room (σ1 := σ454) (a := 1) (b := 400) (by rw [e455]; rfl) (by rw [e455]; rfl) hck
  refine ww_newa (atype := .int) hx hb (hts _ q201) hW 147 0 400 (Or.inl rfl) sole_147 (Or.inr hgm) rfl rfl rfl (by decide) rfl (Nat.le_of_ble_eq_true rfl) hrm1.1 hrm1.2 dX10_init_149 (fun H L hx1 hW => ?_)
  rw [← e455] at hx1 hW
  have hcs := hcs.more (σ1 := σ454) (a := 1) (b := 400) (by rw [e455]; rfl) (by rw [e455]; rfl)
  have hrm := hrm1
  have hc456 : 0 < gN_ σ454 109 := Nat.lt_of_lt_of_le hc435 (hx1.2.1 109)
  have hc457 : (gN_ σ 112) < gN_ σ454 112 := Nat.lt_of_lt_of_le hc436 (hx1.2.1 112)
  have hc458 : (gN_ σ17 113) < gN_ σ454 113 := Nat.lt_of_lt_of_le hc437 (hx1.2.1 113)
  have hc459 : (gN_ σ28 114) < gN_ σ454 114 := Nat.lt_of_lt_of_le hc438 (hx1.2.1 114)
  have hc460 : (gN_ σ41 115) < gN_ σ454 115 := Nat.lt_of_lt_of_le hc439 (hx1.2.1 115)
  have hc461 : (gN_ σ56 116) < gN_ σ454 116 := Nat.lt_of_lt_of_le hc440 (hx1.2.1 116)
  have hc462 : (gN_ σ73 117) < gN_ σ454 117 := Nat.lt_of_lt_of_le hc441 (hx1.2.1 117)
  have hc463 : (gN_ σ92 118) < gN_ σ454 118 := Nat.lt_of_lt_of_le hc442 (hx1.2.1 118)
  have hc464 : (gN_ σ113 119) < gN_ σ454 119 := Nat.lt_of_lt_of_le hc443 (hx1.2.1 119)
  have hc465 : (gN_ σ136 127) < gN_ σ454 127 := Nat.lt_of_lt_of_le hc444 (hx1.2.1 127)
  have hc466 : (gN_ σ161 128) < gN_ σ454 128 := Nat.lt_of_lt_of_le hc445 (hx1.2.1 128)
  have hc467 : (gN_ σ188 129) < gN_ σ454 129 := Nat.lt_of_lt_of_le hc446 (hx1.2.1 129)
  have hc468 : (gN_ σ217 130) < gN_ σ454 130 := Nat.lt_of_lt_of_le hc447 (hx1.2.1 130)
  have hc469 : (gN_ σ248 131) < gN_ σ454 131 := Nat.lt_of_lt_of_le hc448 (hx1.2.1 131)
  have hc470 : (gN_ σ281 137) < gN_ σ454 137 := Nat.lt_of_lt_of_le hc449 (hx1.2.1 137)
  have hc471 : (gN_ σ316 138) < gN_ σ454 138 := Nat.lt_of_lt_of_le hc450 (hx1.2.1 138)
  have hc472 : (gN_ σ353 145) < gN_ σ454 145 := Nat.lt_of_lt_of_le hc451 (hx1.2.1 145)
  have hc473 : (gN_ σ392 146) < gN_ σ454 146 := Nat.lt_of_lt_of_le hc452 (hx1.2.1 146)
  have hc474 : gN_ σ433 147 < gN_ σ454 147 := by rw [e455]; exact nA_lt rfl
  rw [show ow_ 147 = 147 from rfl]
  have hl : lv_has ls 2 [(0, .ref (L 109 0))] := by rw [hx1.at hp453 (by decide)]; exact hl
  refine ww_stk (st1 := [.ref (L 147 (gN_ σ433 147)), .ref (L 109 0)]) (by rw [hx1.at hp453 (by decide)]) ?_
  have hx0 := hx0.trans hx1
  obtain ⟨hc475, hs⟩ := ww_chk hs
  have hpq : pr σ454 147 (gN_ σ433 147) := (pr_dy hc474 rfl rfl)
  rw [hc475] at hpq
  obtain ⟨σ476, e477, hs⟩ := ww_let hs
  refine ww_markF (d := (1, 147, 0)) hx hb hts hown (hnm.trans rfl) hW 109 0 37 0 (pr_dy hc456 rfl rfl) (tgd_1 hpq) (obv_0 rfl) rfl (by decide) (Nat.le_of_ble_eq_true rfl) in_X10 tyX10_ok nmX10 rfl (Nat.le_of_ble_eq_true rfl) (hts _ q1730) (fun _ h => h) rfl rfl rfl (fun _ => rfl) (fun _ => rfl) (by rw [hc475]; rfl) dX10_init_151 (fun H locs hW => ?_)
  have hW : wv g L σ476 s H locs := by rw [e477]; exact hW
  obtain ⟨hx0, hcs⟩ := lx_s (σ1 := σ476) hx0 hcs (by rw [e477]; exact (kp_M (by decide)))
  have hc478 : 0 < gN_ σ476 109 := by rw [e477]; exact hc456
  have hc479 : (gN_ σ 112) < gN_ σ476 112 := by rw [e477]; exact hc457
  have hc480 : (gN_ σ17 113) < gN_ σ476 113 := by rw [e477]; exact hc458
  have hc481 : (gN_ σ28 114) < gN_ σ476 114 := by rw [e477]; exact hc459
  have hc482 : (gN_ σ41 115) < gN_ σ476 115 := by rw [e477]; exact hc460
  have hc483 : (gN_ σ56 116) < gN_ σ476 116 := by rw [e477]; exact hc461
  have hc484 : (gN_ σ73 117) < gN_ σ476 117 := by rw [e477]; exact hc462
  have hc485 : (gN_ σ92 118) < gN_ σ476 118 := by rw [e477]; exact hc463
  have hc486 : (gN_ σ113 119) < gN_ σ476 119 := by rw [e477]; exact hc464
  have hc487 : (gN_ σ136 127) < gN_ σ476 127 := by rw [e477]; exact hc465
  have hc488 : (gN_ σ161 128) < gN_ σ476 128 := by rw [e477]; exact hc466
  have hc489 : (gN_ σ188 129) < gN_ σ476 129 := by rw [e477]; exact hc467
  have hc490 : (gN_ σ217 130) < gN_ σ476 130 := by rw [e477]; exact hc468
  have hc491 : (gN_ σ248 131) < gN_ σ476 131 := by rw [e477]; exact hc469
  have hc492 : (gN_ σ281 137) < gN_ σ476 137 := by rw [e477]; exact hc470
  have hc493 : (gN_ σ316 138) < gN_ σ476 138 := by rw [e477]; exact hc471
  have hc494 : (gN_ σ353 145) < gN_ σ476 145 := by rw [e477]; exact hc472
  have hc495 : (gN_ σ392 146) < gN_ σ476 146 := by rw [e477]; exact hc473
  have hc496 : (gN_ σ433 147) < gN_ σ476 147 := by rw [e477]; exact hc474
  refine lv_aload_n hx hb dX10_init_154 rfl (lv_at hl 0 rfl) ?_
  refine lv_sipush (v := 400) hx hb dX10_init_155 (by decide) ?_
  have hp497 : pr σ476 109 0 := (pr_dy hc478 rfl rfl)
  obtain ⟨σ498, e499, hs⟩ := ww_let hs
  obtain ⟨hs, hck⟩ := ww_ck1 hs
  have hrm1 := hcs.room (σ1 := σ498) (a := 1) (b := 400) (by rw [e499]; rfl) (by rw [e499]; rfl) hck
  refine ww_newa (atype := .int) hx hb (hts _ q201) hW 148 0 400 (Or.inl rfl) sole_148 (Or.inr hgm) rfl rfl rfl (by decide) rfl (Nat.le_of_ble_eq_true rfl) hrm1.1 hrm1.2 dX10_init_158 (fun H L hx1 hW => ?_)
  rw [← e499] at hx1 hW
  have hcs := hcs.more (σ1 := σ498) (a := 1) (b := 400) (by rw [e499]; rfl) (by rw [e499]; rfl)
  have hrm := hrm1
  have hc500 : 0 < gN_ σ498 109 := Nat.lt_of_lt_of_le hc478 (hx1.2.1 109)
  have hc501 : (gN_ σ 112) < gN_ σ498 112 := Nat.lt_of_lt_of_le hc479 (hx1.2.1 112)
  have hc502 : (gN_ σ17 113) < gN_ σ498 113 := Nat.lt_of_lt_of_le hc480 (hx1.2.1 113)
  have hc503 : (gN_ σ28 114) < gN_ σ498 114 := Nat.lt_of_lt_of_le hc481 (hx1.2.1 114)
  have hc504 : (gN_ σ41 115) < gN_ σ498 115 := Nat.lt_of_lt_of_le hc482 (hx1.2.1 115)
  have hc505 : (gN_ σ56 116) < gN_ σ498 116 := Nat.lt_of_lt_of_le hc483 (hx1.2.1 116)
  have hc506 : (gN_ σ73 117) < gN_ σ498 117 := Nat.lt_of_lt_of_le hc484 (hx1.2.1 117)
  have hc507 : (gN_ σ92 118) < gN_ σ498 118 := Nat.lt_of_lt_of_le hc485 (hx1.2.1 118)
  have hc508 : (gN_ σ113 119) < gN_ σ498 119 := Nat.lt_of_lt_of_le hc486 (hx1.2.1 119)
  have hc509 : (gN_ σ136 127) < gN_ σ498 127 := Nat.lt_of_lt_of_le hc487 (hx1.2.1 127)
  have hc510 : (gN_ σ161 128) < gN_ σ498 128 := Nat.lt_of_lt_of_le hc488 (hx1.2.1 128)
  have hc511 : (gN_ σ188 129) < gN_ σ498 129 := Nat.lt_of_lt_of_le hc489 (hx1.2.1 129)
  have hc512 : (gN_ σ217 130) < gN_ σ498 130 := Nat.lt_of_lt_of_le hc490 (hx1.2.1 130)
  have hc513 : (gN_ σ248 131) < gN_ σ498 131 := Nat.lt_of_lt_of_le hc491 (hx1.2.1 131)
  have hc514 : (gN_ σ281 137) < gN_ σ498 137 := Nat.lt_of_lt_of_le hc492 (hx1.2.1 137)
  have hc515 : (gN_ σ316 138) < gN_ σ498 138 := Nat.lt_of_lt_of_le hc493 (hx1.2.1 138)
  have hc516 : (gN_ σ353 145) < gN_ σ498 145 := Nat.lt_of_lt_of_le hc494 (hx1.2.1 145)
  have hc517 : (gN_ σ392 146) < gN_ σ498 146 := Nat.lt_of_lt_of_le hc495 (hx1.2.1 146)
  have hc518 : (gN_ σ433 147) < gN_ σ498 147 := Nat.lt_of_lt_of_le hc496 (hx1.2.1 147)
  have hc519 : gN_ σ476 148 < gN_ σ498 148 := by rw [e499]; exact nA_lt rfl
  rw [show ow_ 148 = 148 from rfl]
  have hl : lv_has ls 2 [(0, .ref (L 109 0))] := by rw [hx1.at hp497 (by decide)]; exact hl
  refine ww_stk (st1 := [.ref (L 148 (gN_ σ476 148)), .ref (L 109 0)]) (by rw [hx1.at hp497 (by decide)]) ?_
  have hx0 := hx0.trans hx1
  obtain ⟨hc520, hs⟩ := ww_chk hs
  have hpq : pr σ498 148 (gN_ σ476 148) := (pr_dy hc519 rfl rfl)
  rw [hc520] at hpq
  obtain ⟨σ521, e522, hs⟩ := ww_let hs
  refine ww_markF (d := (1, 148, 0)) hx hb hts hown (hnm.trans rfl) hW 109 0 38 0 (pr_dy hc500 rfl rfl) (tgd_1 hpq) (obv_0 rfl) rfl (by decide) (Nat.le_of_ble_eq_true rfl) in_X10 tyX10_ok nmX10 rfl (Nat.le_of_ble_eq_true rfl) (hts _ q1731) (fun _ h => h) rfl rfl rfl (fun _ => rfl) (fun _ => rfl) (by rw [hc520]; rfl) dX10_init_160 (fun H locs hW => ?_)
  have hW : wv g L σ521 s H locs := by rw [e522]; exact hW
  obtain ⟨hx0, hcs⟩ := lx_s (σ1 := σ521) hx0 hcs (by rw [e522]; exact (kp_M (by decide)))
  have hc523 : 0 < gN_ σ521 109 := by rw [e522]; exact hc500
  have hc524 : (gN_ σ 112) < gN_ σ521 112 := by rw [e522]; exact hc501
  have hc525 : (gN_ σ17 113) < gN_ σ521 113 := by rw [e522]; exact hc502
  have hc526 : (gN_ σ28 114) < gN_ σ521 114 := by rw [e522]; exact hc503
  have hc527 : (gN_ σ41 115) < gN_ σ521 115 := by rw [e522]; exact hc504
  have hc528 : (gN_ σ56 116) < gN_ σ521 116 := by rw [e522]; exact hc505
  have hc529 : (gN_ σ73 117) < gN_ σ521 117 := by rw [e522]; exact hc506
  have hc530 : (gN_ σ92 118) < gN_ σ521 118 := by rw [e522]; exact hc507
  have hc531 : (gN_ σ113 119) < gN_ σ521 119 := by rw [e522]; exact hc508
  have hc532 : (gN_ σ136 127) < gN_ σ521 127 := by rw [e522]; exact hc509
  have hc533 : (gN_ σ161 128) < gN_ σ521 128 := by rw [e522]; exact hc510
  have hc534 : (gN_ σ188 129) < gN_ σ521 129 := by rw [e522]; exact hc511
  have hc535 : (gN_ σ217 130) < gN_ σ521 130 := by rw [e522]; exact hc512
  have hc536 : (gN_ σ248 131) < gN_ σ521 131 := by rw [e522]; exact hc513
  have hc537 : (gN_ σ281 137) < gN_ σ521 137 := by rw [e522]; exact hc514
  have hc538 : (gN_ σ316 138) < gN_ σ521 138 := by rw [e522]; exact hc515
  have hc539 : (gN_ σ353 145) < gN_ σ521 145 := by rw [e522]; exact hc516
  have hc540 : (gN_ σ392 146) < gN_ σ521 146 := by rw [e522]; exact hc517
  have hc541 : (gN_ σ433 147) < gN_ σ521 147 := by rw [e522]; exact hc518
  have hc542 : (gN_ σ476 148) < gN_ σ521 148 := by rw [e522]; exact hc519
  refine lv_aload_n hx hb dX10_init_163 rfl (lv_at hl 0 rfl) ?_
  refine lv_iconst (v := 4) hx hb dX10_init_164 (by decide) ?_
  have hp543 : pr σ521 109 0 := (pr_dy hc523 rfl rfl)
  obtain ⟨σ544, e545, hs⟩ := ww_let hs
  obtain ⟨hs, hck⟩ := ww_ck1 hs
  have hrm1 := hcs.room (σ1 := σ544) (a := 1) (b := 4) (by rw [e545]; rfl) (by rw [e545]; rfl) hck
  refine ww_newa (atype := .int) hx hb (hts _ q201) hW 150 0 4 (Or.inl rfl) sole_150 (Or.inr hgm) rfl rfl rfl (by decide) rfl (Nat.le_of_ble_eq_true rfl) hrm1.1 hrm1.2 dX10_init_165 (fun H L hx1 hW => ?_)
  rw [← e545] at hx1 hW
  have hcs := hcs.more (σ1 := σ544) (a := 1) (b := 4) (by rw [e545]; rfl) (by rw [e545]; rfl)
  have hrm := hrm1
  have hc546 : 0 < gN_ σ544 109 := Nat.lt_of_lt_of_le hc523 (hx1.2.1 109)
  have hc547 : (gN_ σ 112) < gN_ σ544 112 := Nat.lt_of_lt_of_le hc524 (hx1.2.1 112)
  have hc548 : (gN_ σ17 113) < gN_ σ544 113 := Nat.lt_of_lt_of_le hc525 (hx1.2.1 113)
  have hc549 : (gN_ σ28 114) < gN_ σ544 114 := Nat.lt_of_lt_of_le hc526 (hx1.2.1 114)
  have hc550 : (gN_ σ41 115) < gN_ σ544 115 := Nat.lt_of_lt_of_le hc527 (hx1.2.1 115)
  have hc551 : (gN_ σ56 116) < gN_ σ544 116 := Nat.lt_of_lt_of_le hc528 (hx1.2.1 116)
  have hc552 : (gN_ σ73 117) < gN_ σ544 117 := Nat.lt_of_lt_of_le hc529 (hx1.2.1 117)
  have hc553 : (gN_ σ92 118) < gN_ σ544 118 := Nat.lt_of_lt_of_le hc530 (hx1.2.1 118)
  have hc554 : (gN_ σ113 119) < gN_ σ544 119 := Nat.lt_of_lt_of_le hc531 (hx1.2.1 119)
  have hc555 : (gN_ σ136 127) < gN_ σ544 127 := Nat.lt_of_lt_of_le hc532 (hx1.2.1 127)
  have hc556 : (gN_ σ161 128) < gN_ σ544 128 := Nat.lt_of_lt_of_le hc533 (hx1.2.1 128)
  have hc557 : (gN_ σ188 129) < gN_ σ544 129 := Nat.lt_of_lt_of_le hc534 (hx1.2.1 129)
  have hc558 : (gN_ σ217 130) < gN_ σ544 130 := Nat.lt_of_lt_of_le hc535 (hx1.2.1 130)
  have hc559 : (gN_ σ248 131) < gN_ σ544 131 := Nat.lt_of_lt_of_le hc536 (hx1.2.1 131)
  have hc560 : (gN_ σ281 137) < gN_ σ544 137 := Nat.lt_of_lt_of_le hc537 (hx1.2.1 137)
  have hc561 : (gN_ σ316 138) < gN_ σ544 138 := Nat.lt_of_lt_of_le hc538 (hx1.2.1 138)
  have hc562 : (gN_ σ353 145) < gN_ σ544 145 := Nat.lt_of_lt_of_le hc539 (hx1.2.1 145)
  have hc563 : (gN_ σ392 146) < gN_ σ544 146 := Nat.lt_of_lt_of_le hc540 (hx1.2.1 146)
  have hc564 : (gN_ σ433 147) < gN_ σ544 147 := Nat.lt_of_lt_of_le hc541 (hx1.2.1 147)
  have hc565 : (gN_ σ476 148) < gN_ σ544 148 := Nat.lt_of_lt_of_le hc542 (hx1.2.1 148)
  have hc566 : gN_ σ521 150 < gN_ σ544 150 := by rw [e545]; exact nA_lt rfl
  rw [show ow_ 150 = 150 from rfl]
  have hl : lv_has ls 2 [(0, .ref (L 109 0))] := by rw [hx1.at hp543 (by decide)]; exact hl
  refine ww_stk (st1 := [.ref (L 150 (gN_ σ521 150)), .ref (L 109 0)]) (by rw [hx1.at hp543 (by decide)]) ?_
  have hx0 := hx0.trans hx1
  obtain ⟨hc567, hs⟩ := ww_chk hs
  have hpq : pr σ544 150 (gN_ σ521 150) := (pr_dy hc566 rfl rfl)
  rw [hc567] at hpq
  obtain ⟨σ568, e569, hs⟩ := ww_let hs
  refine ww_markF (d := (1, 150, 0)) hx hb hts hown (hnm.trans rfl) hW 109 0 40 0 (pr_dy hc546 rfl rfl) (tgd_1 hpq) (obv_0 rfl) rfl (by decide) (Nat.le_of_ble_eq_true rfl) in_X10 tyX10_ok nmX10 rfl (Nat.le_of_ble_eq_true rfl) (hts _ q1733) (fun _ h => h) rfl rfl rfl (fun _ => rfl) (fun _ => rfl) (by rw [hc567]; rfl) dX10_init_167 (fun H locs hW => ?_)
  have hW : wv g L σ568 s H locs := by rw [e569]; exact hW
  obtain ⟨hx0, hcs⟩ := lx_s (σ1 := σ568) hx0 hcs (by rw [e569]; exact (kp_M (by decide)))
  have hc570 : 0 < gN_ σ568 109 := by rw [e569]; exact hc546
  have hc571 : (gN_ σ 112) < gN_ σ568 112 := by rw [e569]; exact hc547
  have hc572 : (gN_ σ17 113) < gN_ σ568 113 := by rw [e569]; exact hc548
  have hc573 : (gN_ σ28 114) < gN_ σ568 114 := by rw [e569]; exact hc549
  have hc574 : (gN_ σ41 115) < gN_ σ568 115 := by rw [e569]; exact hc550
  have hc575 : (gN_ σ56 116) < gN_ σ568 116 := by rw [e569]; exact hc551
  have hc576 : (gN_ σ73 117) < gN_ σ568 117 := by rw [e569]; exact hc552
  have hc577 : (gN_ σ92 118) < gN_ σ568 118 := by rw [e569]; exact hc553
  have hc578 : (gN_ σ113 119) < gN_ σ568 119 := by rw [e569]; exact hc554
  have hc579 : (gN_ σ136 127) < gN_ σ568 127 := by rw [e569]; exact hc555
  have hc580 : (gN_ σ161 128) < gN_ σ568 128 := by rw [e569]; exact hc556
  have hc581 : (gN_ σ188 129) < gN_ σ568 129 := by rw [e569]; exact hc557
  have hc582 : (gN_ σ217 130) < gN_ σ568 130 := by rw [e569]; exact hc558
  have hc583 : (gN_ σ248 131) < gN_ σ568 131 := by rw [e569]; exact hc559
  have hc584 : (gN_ σ281 137) < gN_ σ568 137 := by rw [e569]; exact hc560
  have hc585 : (gN_ σ316 138) < gN_ σ568 138 := by rw [e569]; exact hc561
  have hc586 : (gN_ σ353 145) < gN_ σ568 145 := by rw [e569]; exact hc562
  have hc587 : (gN_ σ392 146) < gN_ σ568 146 := by rw [e569]; exact hc563
  have hc588 : (gN_ σ433 147) < gN_ σ568 147 := by rw [e569]; exact hc564
  have hc589 : (gN_ σ476 148) < gN_ σ568 148 := by rw [e569]; exact hc565
  have hc590 : (gN_ σ521 150) < gN_ σ568 150 := by rw [e569]; exact hc566
  refine lv_aload_n hx hb dX10_init_170 rfl (lv_at hl 0 rfl) ?_
  refine lv_iconst (v := 4) hx hb dX10_init_171 (by decide) ?_
  have hp591 : pr σ568 109 0 := (pr_dy hc570 rfl rfl)
  obtain ⟨σ592, e593, hs⟩ := ww_let hs
  obtain ⟨hs, hck⟩ := ww_ck1 hs
  have hrm1 := hcs.room (σ1 := σ592) (a := 1) (b := 4) (by rw [e593]; rfl) (by rw [e593]; rfl) hck
  refine ww_newa (atype := .int) hx hb (hts _ q201) hW 151 0 4 (Or.inl rfl) sole_151 (Or.inr hgm) rfl rfl rfl (by decide) rfl (Nat.le_of_ble_eq_true rfl) hrm1.1 hrm1.2 dX10_init_172 (fun H L hx1 hW => ?_)
  rw [← e593] at hx1 hW
  have hcs := hcs.more (σ1 := σ592) (a := 1) (b := 4) (by rw [e593]; rfl) (by rw [e593]; rfl)
  have hrm := hrm1
  have hc594 : 0 < gN_ σ592 109 := Nat.lt_of_lt_of_le hc570 (hx1.2.1 109)
  have hc595 : (gN_ σ 112) < gN_ σ592 112 := Nat.lt_of_lt_of_le hc571 (hx1.2.1 112)
  have hc596 : (gN_ σ17 113) < gN_ σ592 113 := Nat.lt_of_lt_of_le hc572 (hx1.2.1 113)
  have hc597 : (gN_ σ28 114) < gN_ σ592 114 := Nat.lt_of_lt_of_le hc573 (hx1.2.1 114)
  have hc598 : (gN_ σ41 115) < gN_ σ592 115 := Nat.lt_of_lt_of_le hc574 (hx1.2.1 115)
  have hc599 : (gN_ σ56 116) < gN_ σ592 116 := Nat.lt_of_lt_of_le hc575 (hx1.2.1 116)
  have hc600 : (gN_ σ73 117) < gN_ σ592 117 := Nat.lt_of_lt_of_le hc576 (hx1.2.1 117)
  have hc601 : (gN_ σ92 118) < gN_ σ592 118 := Nat.lt_of_lt_of_le hc577 (hx1.2.1 118)
  have hc602 : (gN_ σ113 119) < gN_ σ592 119 := Nat.lt_of_lt_of_le hc578 (hx1.2.1 119)
  have hc603 : (gN_ σ136 127) < gN_ σ592 127 := Nat.lt_of_lt_of_le hc579 (hx1.2.1 127)
  have hc604 : (gN_ σ161 128) < gN_ σ592 128 := Nat.lt_of_lt_of_le hc580 (hx1.2.1 128)
  have hc605 : (gN_ σ188 129) < gN_ σ592 129 := Nat.lt_of_lt_of_le hc581 (hx1.2.1 129)
  have hc606 : (gN_ σ217 130) < gN_ σ592 130 := Nat.lt_of_lt_of_le hc582 (hx1.2.1 130)
  have hc607 : (gN_ σ248 131) < gN_ σ592 131 := Nat.lt_of_lt_of_le hc583 (hx1.2.1 131)
  have hc608 : (gN_ σ281 137) < gN_ σ592 137 := Nat.lt_of_lt_of_le hc584 (hx1.2.1 137)
  have hc609 : (gN_ σ316 138) < gN_ σ592 138 := Nat.lt_of_lt_of_le hc585 (hx1.2.1 138)
  have hc610 : (gN_ σ353 145) < gN_ σ592 145 := Nat.lt_of_lt_of_le hc586 (hx1.2.1 145)
  have hc611 : (gN_ σ392 146) < gN_ σ592 146 := Nat.lt_of_lt_of_le hc587 (hx1.2.1 146)
  have hc612 : (gN_ σ433 147) < gN_ σ592 147 := Nat.lt_of_lt_of_le hc588 (hx1.2.1 147)
  have hc613 : (gN_ σ476 148) < gN_ σ592 148 := Nat.lt_of_lt_of_le hc589 (hx1.2.1 148)
  have hc614 : (gN_ σ521 150) < gN_ σ592 150 := Nat.lt_of_lt_of_le hc590 (hx1.2.1 150)
  have hc615 : gN_ σ568 151 < gN_ σ592 151 := by rw [e593]; exact nA_lt rfl
  rw [show ow_ 151 = 151 from rfl]
  have hl : lv_has ls 2 [(0, .ref (L 109 0))] := by rw [hx1.at hp591 (by decide)]; exact hl
  refine ww_stk (st1 := [.ref (L 151 (gN_ σ568 151)), .ref (L 109 0)]) (by rw [hx1.at hp591 (by decide)]) ?_
  have hx0 := hx0.trans hx1
  obtain ⟨hc616, hs⟩ := ww_chk hs
  have hpq : pr σ592 151 (gN_ σ568 151) := (pr_dy hc615 rfl rfl)
  rw [hc616] at hpq
  obtain ⟨σ617, e618, hs⟩ := ww_let hs
  refine ww_markF (d := (1, 151, 0)) hx hb hts hown (hnm.trans rfl) hW 109 0 41 0 (pr_dy hc594 rfl rfl) (tgd_1 hpq) (obv_0 rfl) rfl (by decide) (Nat.le_of_ble_eq_true rfl) in_X10 tyX10_ok nmX10 rfl (Nat.le_of_ble_eq_true rfl) (hts _ q1734) (fun _ h => h) rfl rfl rfl (fun _ => rfl) (fun _ => rfl) (by rw [hc616]; rfl) dX10_init_174 (fun H locs hW => ?_)
  have hW : wv g L σ617 s H locs := by rw [e618]; exact hW
  obtain ⟨hx0, hcs⟩ := lx_s (σ1 := σ617) hx0 hcs (by rw [e618]; exact (kp_M (by decide)))
  have hc619 : 0 < gN_ σ617 109 := by rw [e618]; exact hc594
  have hc620 : (gN_ σ 112) < gN_ σ617 112 := by rw [e618]; exact hc595
  have hc621 : (gN_ σ17 113) < gN_ σ617 113 := by rw [e618]; exact hc596
  have hc622 : (gN_ σ28 114) < gN_ σ617 114 := by rw [e618]; exact hc597
  have hc623 : (gN_ σ41 115) < gN_ σ617 115 := by rw [e618]; exact hc598
  have hc624 : (gN_ σ56 116) < gN_ σ617 116 := by rw [e618]; exact hc599
  have hc625 : (gN_ σ73 117) < gN_ σ617 117 := by rw [e618]; exact hc600
  have hc626 : (gN_ σ92 118) < gN_ σ617 118 := by rw [e618]; exact hc601
  have hc627 : (gN_ σ113 119) < gN_ σ617 119 := by rw [e618]; exact hc602
  have hc628 : (gN_ σ136 127) < gN_ σ617 127 := by rw [e618]; exact hc603
  have hc629 : (gN_ σ161 128) < gN_ σ617 128 := by rw [e618]; exact hc604
  have hc630 : (gN_ σ188 129) < gN_ σ617 129 := by rw [e618]; exact hc605
  have hc631 : (gN_ σ217 130) < gN_ σ617 130 := by rw [e618]; exact hc606
  have hc632 : (gN_ σ248 131) < gN_ σ617 131 := by rw [e618]; exact hc607
  have hc633 : (gN_ σ281 137) < gN_ σ617 137 := by rw [e618]; exact hc608
  have hc634 : (gN_ σ316 138) < gN_ σ617 138 := by rw [e618]; exact hc609
  have hc635 : (gN_ σ353 145) < gN_ σ617 145 := by rw [e618]; exact hc610
  have hc636 : (gN_ σ392 146) < gN_ σ617 146 := by rw [e618]; exact hc611
  have hc637 : (gN_ σ433 147) < gN_ σ617 147 := by rw [e618]; exact hc612
  have hc638 : (gN_ σ476 148) < gN_ σ617 148 := by rw [e618]; exact hc613
  have hc639 : (gN_ σ521 150) < gN_ σ617 150 := by rw [e618]; exact hc614
  have hc640 : (gN_ σ568 151) < gN_ σ617 151 := by rw [e618]; exact hc615
  refine lv_aload_n hx hb dX10_init_177 rfl (lv_at hl 0 rfl) ?_
  refine lv_iconst (v := 4) hx hb dX10_init_178 (by decide) ?_
  have hp641 : pr σ617 109 0 := (pr_dy hc619 rfl rfl)
  obtain ⟨σ642, e643, hs⟩ := ww_let hs
  obtain ⟨hs, hck⟩ := ww_ck1 hs
  have hrm1 := hcs.room (σ1 := σ642) (a := 1) (b := 4) (by rw [e643]; rfl) (by rw [e643]; rfl) hck
  refine ww_newa (atype := .int) hx hb (hts _ q201) hW 152 0 4 (Or.inl rfl) sole_152 (Or.inr hgm) rfl rfl rfl (by decide) rfl (Nat.le_of_ble_eq_true rfl) hrm1.1 hrm1.2 dX10_init_179 (fun H L hx1 hW => ?_)
  rw [← e643] at hx1 hW
  have hcs := hcs.more (σ1 := σ642) (a := 1) (b := 4) (by rw [e643]; rfl) (by rw [e643]; rfl)
  have hrm := hrm1
  have hc644 : 0 < gN_ σ642 109 := Nat.lt_of_lt_of_le hc619 (hx1.2.1 109)
  have hc645 : (gN_ σ 112) < gN_ σ642 112 := Nat.lt_of_lt_of_le hc620 (hx1.2.1 112)
  have hc646 : (gN_ σ17 113) < gN_ σ642 113 := Nat.lt_of_lt_of_le hc621 (hx1.2.1 113)
  have hc647 : (gN_ σ28 114) < gN_ σ642 114 := Nat.lt_of_lt_of_le hc622 (hx1.2.1 114)
  have hc648 : (gN_ σ41 115) < gN_ σ642 115 := Nat.lt_of_lt_of_le hc623 (hx1.2.1 115)
  have hc649 : (gN_ σ56 116) < gN_ σ642 116 := Nat.lt_of_lt_of_le hc624 (hx1.2.1 116)
  have hc650 : (gN_ σ73 117) < gN_ σ642 117 := Nat.lt_of_lt_of_le hc625 (hx1.2.1 117)
  have hc651 : (gN_ σ92 118) < gN_ σ642 118 := Nat.lt_of_lt_of_le hc626 (hx1.2.1 118)
  have hc652 : (gN_ σ113 119) < gN_ σ642 119 := Nat.lt_of_lt_of_le hc627 (hx1.2.1 119)
  have hc653 : (gN_ σ136 127) < gN_ σ642 127 := Nat.lt_of_lt_of_le hc628 (hx1.2.1 127)
  have hc654 : (gN_ σ161 128) < gN_ σ642 128 := Nat.lt_of_lt_of_le hc629 (hx1.2.1 128)
  have hc655 : (gN_ σ188 129) < gN_ σ642 129 := Nat.lt_of_lt_of_le hc630 (hx1.2.1 129)
  have hc656 : (gN_ σ217 130) < gN_ σ642 130 := Nat.lt_of_lt_of_le hc631 (hx1.2.1 130)
  have hc657 : (gN_ σ248 131) < gN_ σ642 131 := Nat.lt_of_lt_of_le hc632 (hx1.2.1 131)
  have hc658 : (gN_ σ281 137) < gN_ σ642 137 := Nat.lt_of_lt_of_le hc633 (hx1.2.1 137)
  have hc659 : (gN_ σ316 138) < gN_ σ642 138 := Nat.lt_of_lt_of_le hc634 (hx1.2.1 138)
  have hc660 : (gN_ σ353 145) < gN_ σ642 145 := Nat.lt_of_lt_of_le hc635 (hx1.2.1 145)
  have hc661 : (gN_ σ392 146) < gN_ σ642 146 := Nat.lt_of_lt_of_le hc636 (hx1.2.1 146)
  have hc662 : (gN_ σ433 147) < gN_ σ642 147 := Nat.lt_of_lt_of_le hc637 (hx1.2.1 147)
  have hc663 : (gN_ σ476 148) < gN_ σ642 148 := Nat.lt_of_lt_of_le hc638 (hx1.2.1 148)
  have hc664 : (gN_ σ521 150) < gN_ σ642 150 := Nat.lt_of_lt_of_le hc639 (hx1.2.1 150)
  have hc665 : (gN_ σ568 151) < gN_ σ642 151 := Nat.lt_of_lt_of_le hc640 (hx1.2.1 151)
  have hc666 : gN_ σ617 152 < gN_ σ642 152 := by rw [e643]; exact nA_lt rfl
  rw [show ow_ 152 = 152 from rfl]
  have hl : lv_has ls 2 [(0, .ref (L 109 0))] := by rw [hx1.at hp641 (by decide)]; exact hl
  refine ww_stk (st1 := [.ref (L 152 (gN_ σ617 152)), .ref (L 109 0)]) (by rw [hx1.at hp641 (by decide)]) ?_
  have hx0 := hx0.trans hx1
  obtain ⟨hc667, hs⟩ := ww_chk hs
  have hpq : pr σ642 152 (gN_ σ617 152) := (pr_dy hc666 rfl rfl)
  rw [hc667] at hpq
  obtain ⟨σ668, e669, hs⟩ := ww_let hs
  refine ww_markF (d := (1, 152, 0)) hx hb hts hown (hnm.trans rfl) hW 109 0 42 0 (pr_dy hc644 rfl rfl) (tgd_1 hpq) (obv_0 rfl) rfl (by decide) (Nat.le_of_ble_eq_true rfl) in_X10 tyX10_ok nmX10 rfl (Nat.le_of_ble_eq_true rfl) (hts _ q1735) (fun _ h => h) rfl rfl rfl (fun _ => rfl) (fun _ => rfl) (by rw [hc667]; rfl) dX10_init_181 (fun H locs hW => ?_)
  have hW : wv g L σ668 s H locs := by rw [e669]; exact hW
  obtain ⟨hx0, hcs⟩ := lx_s (σ1 := σ668) hx0 hcs (by rw [e669]; exact (kp_M (by decide)))
  have hc670 : 0 < gN_ σ668 109 := by rw [e669]; exact hc644
  have hc671 : (gN_ σ 112) < gN_ σ668 112 := by rw [e669]; exact hc645
  have hc672 : (gN_ σ17 113) < gN_ σ668 113 := by rw [e669]; exact hc646
  have hc673 : (gN_ σ28 114) < gN_ σ668 114 := by rw [e669]; exact hc647
  have hc674 : (gN_ σ41 115) < gN_ σ668 115 := by rw [e669]; exact hc648
  have hc675 : (gN_ σ56 116) < gN_ σ668 116 := by rw [e669]; exact hc649
  have hc676 : (gN_ σ73 117) < gN_ σ668 117 := by rw [e669]; exact hc650
  have hc677 : (gN_ σ92 118) < gN_ σ668 118 := by rw [e669]; exact hc651
  have hc678 : (gN_ σ113 119) < gN_ σ668 119 := by rw [e669]; exact hc652
  have hc679 : (gN_ σ136 127) < gN_ σ668 127 := by rw [e669]; exact hc653
  have hc680 : (gN_ σ161 128) < gN_ σ668 128 := by rw [e669]; exact hc654
  have hc681 : (gN_ σ188 129) < gN_ σ668 129 := by rw [e669]; exact hc655
  have hc682 : (gN_ σ217 130) < gN_ σ668 130 := by rw [e669]; exact hc656
  have hc683 : (gN_ σ248 131) < gN_ σ668 131 := by rw [e669]; exact hc657
  have hc684 : (gN_ σ281 137) < gN_ σ668 137 := by rw [e669]; exact hc658
  have hc685 : (gN_ σ316 138) < gN_ σ668 138 := by rw [e669]; exact hc659
  have hc686 : (gN_ σ353 145) < gN_ σ668 145 := by rw [e669]; exact hc660
  have hc687 : (gN_ σ392 146) < gN_ σ668 146 := by rw [e669]; exact hc661
  have hc688 : (gN_ σ433 147) < gN_ σ668 147 := by rw [e669]; exact hc662
  have hc689 : (gN_ σ476 148) < gN_ σ668 148 := by rw [e669]; exact hc663
  have hc690 : (gN_ σ521 150) < gN_ σ668 150 := by rw [e669]; exact hc664
  have hc691 : (gN_ σ568 151) < gN_ σ668 151 := by rw [e669]; exact hc665
  have hc692 : (gN_ σ617 152) < gN_ σ668 152 := by rw [e669]; exact hc666
  refine lv_aload_n hx hb dX10_init_184 rfl (lv_at hl 0 rfl) ?_
  refine lv_bipush (v := 64) hx hb dX10_init_185 (by decide) ?_
  have hp693 : pr σ668 109 0 := (pr_dy hc670 rfl rfl)
  obtain ⟨σ694, e695, hs⟩ := ww_let hs
  obtain ⟨hs, hck⟩ := ww_ck1 hs
  have hrm1 := hcs.room (σ1 := σ694) (a := 1) (b := 64) (by rw [e695]; rfl) (by rw [e695]; rfl) hck
  refine ww_newa (atype := .int) hx hb (hts _ q201) hW 153 0 64 (Or.inl rfl) sole_153 (Or.inr hgm) rfl rfl rfl (by decide) rfl (Nat.le_of_ble_eq_true rfl) hrm1.1 hrm1.2 dX10_init_187 (fun H L hx1 hW => ?_)
  rw [← e695] at hx1 hW
  have hcs := hcs.more (σ1 := σ694) (a := 1) (b := 64) (by rw [e695]; rfl) (by rw [e695]; rfl)
  have hrm := hrm1
  have hc696 : 0 < gN_ σ694 109 := Nat.lt_of_lt_of_le hc670 (hx1.2.1 109)
  have hc697 : (gN_ σ 112) < gN_ σ694 112 := Nat.lt_of_lt_of_le hc671 (hx1.2.1 112)
  have hc698 : (gN_ σ17 113) < gN_ σ694 113 := Nat.lt_of_lt_of_le hc672 (hx1.2.1 113)
  have hc699 : (gN_ σ28 114) < gN_ σ694 114 := Nat.lt_of_lt_of_le hc673 (hx1.2.1 114)
  have hc700 : (gN_ σ41 115) < gN_ σ694 115 := Nat.lt_of_lt_of_le hc674 (hx1.2.1 115)
  have hc701 : (gN_ σ56 116) < gN_ σ694 116 := Nat.lt_of_lt_of_le hc675 (hx1.2.1 116)
  have hc702 : (gN_ σ73 117) < gN_ σ694 117 := Nat.lt_of_lt_of_le hc676 (hx1.2.1 117)
  have hc703 : (gN_ σ92 118) < gN_ σ694 118 := Nat.lt_of_lt_of_le hc677 (hx1.2.1 118)
  have hc704 : (gN_ σ113 119) < gN_ σ694 119 := Nat.lt_of_lt_of_le hc678 (hx1.2.1 119)
  have hc705 : (gN_ σ136 127) < gN_ σ694 127 := Nat.lt_of_lt_of_le hc679 (hx1.2.1 127)
  have hc706 : (gN_ σ161 128) < gN_ σ694 128 := Nat.lt_of_lt_of_le hc680 (hx1.2.1 128)
  have hc707 : (gN_ σ188 129) < gN_ σ694 129 := Nat.lt_of_lt_of_le hc681 (hx1.2.1 129)
  have hc708 : (gN_ σ217 130) < gN_ σ694 130 := Nat.lt_of_lt_of_le hc682 (hx1.2.1 130)
  have hc709 : (gN_ σ248 131) < gN_ σ694 131 := Nat.lt_of_lt_of_le hc683 (hx1.2.1 131)
  have hc710 : (gN_ σ281 137) < gN_ σ694 137 := Nat.lt_of_lt_of_le hc684 (hx1.2.1 137)
  have hc711 : (gN_ σ316 138) < gN_ σ694 138 := Nat.lt_of_lt_of_le hc685 (hx1.2.1 138)
  have hc712 : (gN_ σ353 145) < gN_ σ694 145 := Nat.lt_of_lt_of_le hc686 (hx1.2.1 145)
  have hc713 : (gN_ σ392 146) < gN_ σ694 146 := Nat.lt_of_lt_of_le hc687 (hx1.2.1 146)
  have hc714 : (gN_ σ433 147) < gN_ σ694 147 := Nat.lt_of_lt_of_le hc688 (hx1.2.1 147)
  have hc715 : (gN_ σ476 148) < gN_ σ694 148 := Nat.lt_of_lt_of_le hc689 (hx1.2.1 148)
  have hc716 : (gN_ σ521 150) < gN_ σ694 150 := Nat.lt_of_lt_of_le hc690 (hx1.2.1 150)
  have hc717 : (gN_ σ568 151) < gN_ σ694 151 := Nat.lt_of_lt_of_le hc691 (hx1.2.1 151)
  have hc718 : (gN_ σ617 152) < gN_ σ694 152 := Nat.lt_of_lt_of_le hc692 (hx1.2.1 152)
  have hc719 : gN_ σ668 153 < gN_ σ694 153 := by rw [e695]; exact nA_lt rfl
  rw [show ow_ 153 = 153 from rfl]
  have hl : lv_has ls 2 [(0, .ref (L 109 0))] := by rw [hx1.at hp693 (by decide)]; exact hl
  refine ww_stk (st1 := [.ref (L 153 (gN_ σ668 153)), .ref (L 109 0)]) (by rw [hx1.at hp693 (by decide)]) ?_
  have hx0 := hx0.trans hx1
  obtain ⟨hc720, hs⟩ := ww_chk hs
  have hpq : pr σ694 153 (gN_ σ668 153) := (pr_dy hc719 rfl rfl)
  rw [hc720] at hpq
  obtain ⟨σ721, e722, hs⟩ := ww_let hs
  refine ww_markF (d := (1, 153, 0)) hx hb hts hown (hnm.trans rfl) hW 109 0 43 0 (pr_dy hc696 rfl rfl) (tgd_1 hpq) (obv_0 rfl) rfl (by decide) (Nat.le_of_ble_eq_true rfl) in_X10 tyX10_ok nmX10 rfl (Nat.le_of_ble_eq_true rfl) (hts _ q1736) (fun _ h => h) rfl rfl rfl (fun _ => rfl) (fun _ => rfl) (by rw [hc720]; rfl) dX10_init_189 (fun H locs hW => ?_)
  have hW : wv g L σ721 s H locs := by rw [e722]; exact hW
  obtain ⟨hx0, hcs⟩ := lx_s (σ1 := σ721) hx0 hcs (by rw [e722]; exact (kp_M (by decide)))
  have hc723 : 0 < gN_ σ721 109 := by rw [e722]; exact hc696
  have hc724 : (gN_ σ 112) < gN_ σ721 112 := by rw [e722]; exact hc697
  have hc725 : (gN_ σ17 113) < gN_ σ721 113 := by rw [e722]; exact hc698
  have hc726 : (gN_ σ28 114) < gN_ σ721 114 := by rw [e722]; exact hc699
  have hc727 : (gN_ σ41 115) < gN_ σ721 115 := by rw [e722]; exact hc700
  have hc728 : (gN_ σ56 116) < gN_ σ721 116 := by rw [e722]; exact hc701
  have hc729 : (gN_ σ73 117) < gN_ σ721 117 := by rw [e722]; exact hc702
  have hc730 : (gN_ σ92 118) < gN_ σ721 118 := by rw [e722]; exact hc703
  have hc731 : (gN_ σ113 119) < gN_ σ721 119 := by rw [e722]; exact hc704
  have hc732 : (gN_ σ136 127) < gN_ σ721 127 := by rw [e722]; exact hc705
  have hc733 : (gN_ σ161 128) < gN_ σ721 128 := by rw [e722]; exact hc706
  have hc734 : (gN_ σ188 129) < gN_ σ721 129 := by rw [e722]; exact hc707
  have hc735 : (gN_ σ217 130) < gN_ σ721 130 := by rw [e722]; exact hc708
  have hc736 : (gN_ σ248 131) < gN_ σ721 131 := by rw [e722]; exact hc709
  have hc737 : (gN_ σ281 137) < gN_ σ721 137 := by rw [e722]; exact hc710
  have hc738 : (gN_ σ316 138) < gN_ σ721 138 := by rw [e722]; exact hc711
  have hc739 : (gN_ σ353 145) < gN_ σ721 145 := by rw [e722]; exact hc712
  have hc740 : (gN_ σ392 146) < gN_ σ721 146 := by rw [e722]; exact hc713
  have hc741 : (gN_ σ433 147) < gN_ σ721 147 := by rw [e722]; exact hc714
  have hc742 : (gN_ σ476 148) < gN_ σ721 148 := by rw [e722]; exact hc715
  have hc743 : (gN_ σ521 150) < gN_ σ721 150 := by rw [e722]; exact hc716
  have hc744 : (gN_ σ568 151) < gN_ σ721 151 := by rw [e722]; exact hc717
  have hc745 : (gN_ σ617 152) < gN_ σ721 152 := by rw [e722]; exact hc718
  have hc746 : (gN_ σ668 153) < gN_ σ721 153 := by rw [e722]; exact hc719
  refine lv_aload_n hx hb dX10_init_192 rfl (lv_at hl 0 rfl) ?_
  refine lv_sipush (v := 128) hx hb dX10_init_193 (by decide) ?_
  have hp747 : pr σ721 109 0 := (pr_dy hc723 rfl rfl)
  obtain ⟨σ748, e749, hs⟩ := ww_let hs
  obtain ⟨hs, hck⟩ := ww_ck1 hs
  have hrm1 := hcs.room (σ1 := σ748) (a := 1) (b := 128) (by rw [e749]; rfl) (by rw [e749]; rfl) hck
  refine ww_newa (atype := .int) hx hb (hts _ q201) hW 154 0 128 (Or.inl rfl) sole_154 (Or.inr hgm) rfl rfl rfl (by decide) rfl (Nat.le_of_ble_eq_true rfl) hrm1.1 hrm1.2 dX10_init_196 (fun H L hx1 hW => ?_)
  rw [← e749] at hx1 hW
  have hcs := hcs.more (σ1 := σ748) (a := 1) (b := 128) (by rw [e749]; rfl) (by rw [e749]; rfl)
  have hrm := hrm1
  have hc750 : 0 < gN_ σ748 109 := Nat.lt_of_lt_of_le hc723 (hx1.2.1 109)
  have hc751 : (gN_ σ 112) < gN_ σ748 112 := Nat.lt_of_lt_of_le hc724 (hx1.2.1 112)
  have hc752 : (gN_ σ17 113) < gN_ σ748 113 := Nat.lt_of_lt_of_le hc725 (hx1.2.1 113)
  have hc753 : (gN_ σ28 114) < gN_ σ748 114 := Nat.lt_of_lt_of_le hc726 (hx1.2.1 114)
  have hc754 : (gN_ σ41 115) < gN_ σ748 115 := Nat.lt_of_lt_of_le hc727 (hx1.2.1 115)
  have hc755 : (gN_ σ56 116) < gN_ σ748 116 := Nat.lt_of_lt_of_le hc728 (hx1.2.1 116)
  have hc756 : (gN_ σ73 117) < gN_ σ748 117 := Nat.lt_of_lt_of_le hc729 (hx1.2.1 117)
  have hc757 : (gN_ σ92 118) < gN_ σ748 118 := Nat.lt_of_lt_of_le hc730 (hx1.2.1 118)
  have hc758 : (gN_ σ113 119) < gN_ σ748 119 := Nat.lt_of_lt_of_le hc731 (hx1.2.1 119)
  have hc759 : (gN_ σ136 127) < gN_ σ748 127 := Nat.lt_of_lt_of_le hc732 (hx1.2.1 127)
  have hc760 : (gN_ σ161 128) < gN_ σ748 128 := Nat.lt_of_lt_of_le hc733 (hx1.2.1 128)
  have hc761 : (gN_ σ188 129) < gN_ σ748 129 := Nat.lt_of_lt_of_le hc734 (hx1.2.1 129)
  have hc762 : (gN_ σ217 130) < gN_ σ748 130 := Nat.lt_of_lt_of_le hc735 (hx1.2.1 130)
  have hc763 : (gN_ σ248 131) < gN_ σ748 131 := Nat.lt_of_lt_of_le hc736 (hx1.2.1 131)
  have hc764 : (gN_ σ281 137) < gN_ σ748 137 := Nat.lt_of_lt_of_le hc737 (hx1.2.1 137)
  have hc765 : (gN_ σ316 138) < gN_ σ748 138 := Nat.lt_of_lt_of_le hc738 (hx1.2.1 138)
  have hc766 : (gN_ σ353 145) < gN_ σ748 145 := Nat.lt_of_lt_of_le hc739 (hx1.2.1 145)
  have hc767 : (gN_ σ392 146) < gN_ σ748 146 := Nat.lt_of_lt_of_le hc740 (hx1.2.1 146)
  have hc768 : (gN_ σ433 147) < gN_ σ748 147 := Nat.lt_of_lt_of_le hc741 (hx1.2.1 147)
  have hc769 : (gN_ σ476 148) < gN_ σ748 148 := Nat.lt_of_lt_of_le hc742 (hx1.2.1 148)
  have hc770 : (gN_ σ521 150) < gN_ σ748 150 := Nat.lt_of_lt_of_le hc743 (hx1.2.1 150)
  have hc771 : (gN_ σ568 151) < gN_ σ748 151 := Nat.lt_of_lt_of_le hc744 (hx1.2.1 151)
  have hc772 : (gN_ σ617 152) < gN_ σ748 152 := Nat.lt_of_lt_of_le hc745 (hx1.2.1 152)
  have hc773 : (gN_ σ668 153) < gN_ σ748 153 := Nat.lt_of_lt_of_le hc746 (hx1.2.1 153)
  have hc774 : gN_ σ721 154 < gN_ σ748 154 := by rw [e749]; exact nA_lt rfl
  rw [show ow_ 154 = 154 from rfl]
  have hl : lv_has ls 2 [(0, .ref (L 109 0))] := by rw [hx1.at hp747 (by decide)]; exact hl
  refine ww_stk (st1 := [.ref (L 154 (gN_ σ721 154)), .ref (L 109 0)]) (by rw [hx1.at hp747 (by decide)]) ?_
  have hx0 := hx0.trans hx1
  obtain ⟨hc775, hs⟩ := ww_chk hs
  have hpq : pr σ748 154 (gN_ σ721 154) := (pr_dy hc774 rfl rfl)
  rw [hc775] at hpq
  obtain ⟨σ776, e777, hs⟩ := ww_let hs
  refine ww_markF (d := (1, 154, 0)) hx hb hts hown (hnm.trans rfl) hW 109 0 44 0 (pr_dy hc750 rfl rfl) (tgd_1 hpq) (obv_0 rfl) rfl (by decide) (Nat.le_of_ble_eq_true rfl) in_X10 tyX10_ok nmX10 rfl (Nat.le_of_ble_eq_true rfl) (hts _ q1737) (fun _ h => h) rfl rfl rfl (fun _ => rfl) (fun _ => rfl) (by rw [hc775]; rfl) dX10_init_198 (fun H locs hW => ?_)
  have hW : wv g L σ776 s H locs := by rw [e777]; exact hW
  obtain ⟨hx0, hcs⟩ := lx_s (σ1 := σ776) hx0 hcs (by rw [e777]; exact (kp_M (by decide)))
  have hc778 : 0 < gN_ σ776 109 := by rw [e777]; exact hc750
  have hc779 : (gN_ σ 112) < gN_ σ776 112 := by rw [e777]; exact hc751
  have hc780 : (gN_ σ17 113) < gN_ σ776 113 := by rw [e777]; exact hc752
  have hc781 : (gN_ σ28 114) < gN_ σ776 114 := by rw [e777]; exact hc753
  have hc782 : (gN_ σ41 115) < gN_ σ776 115 := by rw [e777]; exact hc754
  have hc783 : (gN_ σ56 116) < gN_ σ776 116 := by rw [e777]; exact hc755
  have hc784 : (gN_ σ73 117) < gN_ σ776 117 := by rw [e777]; exact hc756
  have hc785 : (gN_ σ92 118) < gN_ σ776 118 := by rw [e777]; exact hc757
  have hc786 : (gN_ σ113 119) < gN_ σ776 119 := by rw [e777]; exact hc758
  have hc787 : (gN_ σ136 127) < gN_ σ776 127 := by rw [e777]; exact hc759
  have hc788 : (gN_ σ161 128) < gN_ σ776 128 := by rw [e777]; exact hc760
  have hc789 : (gN_ σ188 129) < gN_ σ776 129 := by rw [e777]; exact hc761
  have hc790 : (gN_ σ217 130) < gN_ σ776 130 := by rw [e777]; exact hc762
  have hc791 : (gN_ σ248 131) < gN_ σ776 131 := by rw [e777]; exact hc763
  have hc792 : (gN_ σ281 137) < gN_ σ776 137 := by rw [e777]; exact hc764
  have hc793 : (gN_ σ316 138) < gN_ σ776 138 := by rw [e777]; exact hc765
  have hc794 : (gN_ σ353 145) < gN_ σ776 145 := by rw [e777]; exact hc766
  have hc795 : (gN_ σ392 146) < gN_ σ776 146 := by rw [e777]; exact hc767
  have hc796 : (gN_ σ433 147) < gN_ σ776 147 := by rw [e777]; exact hc768
  have hc797 : (gN_ σ476 148) < gN_ σ776 148 := by rw [e777]; exact hc769
  have hc798 : (gN_ σ521 150) < gN_ σ776 150 := by rw [e777]; exact hc770
  have hc799 : (gN_ σ568 151) < gN_ σ776 151 := by rw [e777]; exact hc771
  have hc800 : (gN_ σ617 152) < gN_ σ776 152 := by rw [e777]; exact hc772
  have hc801 : (gN_ σ668 153) < gN_ σ776 153 := by rw [e777]; exact hc773
  have hc802 : (gN_ σ721 154) < gN_ σ776 154 := by rw [e777]; exact hc774
  refine lv_aload_n hx hb dX10_init_201 rfl (lv_at hl 0 rfl) ?_
  refine lv_bipush (v := 64) hx hb dX10_init_202 (by decide) ?_
  have hp803 : pr σ776 109 0 := (pr_dy hc778 rfl rfl)
  obtain ⟨σ804, e805, hs⟩ := ww_let hs
  obtain ⟨hs, hck⟩ := ww_ck1 hs
  have hrm1 := hcs.room (σ1 := σ804) (a := 1) (b := 64) (by rw [e805]; rfl) (by rw [e805]; rfl) hck
  refine ww_newa (atype := .int) hx hb (hts _ q201) hW 155 0 64 (Or.inl rfl) sole_155 (Or.inr hgm) rfl rfl rfl (by decide) rfl (Nat.le_of_ble_eq_true rfl) hrm1.1 hrm1.2 dX10_init_204 (fun H L hx1 hW => ?_)
  rw [← e805] at hx1 hW
  have hcs := hcs.more (σ1 := σ804) (a := 1) (b := 64) (by rw [e805]; rfl) (by rw [e805]; rfl)
  have hrm := hrm1
  have hc806 : 0 < gN_ σ804 109 := Nat.lt_of_lt_of_le hc778 (hx1.2.1 109)
  have hc807 : (gN_ σ 112) < gN_ σ804 112 := Nat.lt_of_lt_of_le hc779 (hx1.2.1 112)
  have hc808 : (gN_ σ17 113) < gN_ σ804 113 := Nat.lt_of_lt_of_le hc780 (hx1.2.1 113)
  have hc809 : (gN_ σ28 114) < gN_ σ804 114 := Nat.lt_of_lt_of_le hc781 (hx1.2.1 114)
  have hc810 : (gN_ σ41 115) < gN_ σ804 115 := Nat.lt_of_lt_of_le hc782 (hx1.2.1 115)
  have hc811 : (gN_ σ56 116) < gN_ σ804 116 := Nat.lt_of_lt_of_le hc783 (hx1.2.1 116)
  have hc812 : (gN_ σ73 117) < gN_ σ804 117 := Nat.lt_of_lt_of_le hc784 (hx1.2.1 117)
  have hc813 : (gN_ σ92 118) < gN_ σ804 118 := Nat.lt_of_lt_of_le hc785 (hx1.2.1 118)
  have hc814 : (gN_ σ113 119) < gN_ σ804 119 := Nat.lt_of_lt_of_le hc786 (hx1.2.1 119)
  have hc815 : (gN_ σ136 127) < gN_ σ804 127 := Nat.lt_of_lt_of_le hc787 (hx1.2.1 127)
  have hc816 : (gN_ σ161 128) < gN_ σ804 128 := Nat.lt_of_lt_of_le hc788 (hx1.2.1 128)
  have hc817 : (gN_ σ188 129) < gN_ σ804 129 := Nat.lt_of_lt_of_le hc789 (hx1.2.1 129)
  have hc818 : (gN_ σ217 130) < gN_ σ804 130 := Nat.lt_of_lt_of_le hc790 (hx1.2.1 130)
  have hc819 : (gN_ σ248 131) < gN_ σ804 131 := Nat.lt_of_lt_of_le hc791 (hx1.2.1 131)
  have hc820 : (gN_ σ281 137) < gN_ σ804 137 := Nat.lt_of_lt_of_le hc792 (hx1.2.1 137)
  have hc821 : (gN_ σ316 138) < gN_ σ804 138 := Nat.lt_of_lt_of_le hc793 (hx1.2.1 138)
  have hc822 : (gN_ σ353 145) < gN_ σ804 145 := Nat.lt_of_lt_of_le hc794 (hx1.2.1 145)
  have hc823 : (gN_ σ392 146) < gN_ σ804 146 := Nat.lt_of_lt_of_le hc795 (hx1.2.1 146)
  have hc824 : (gN_ σ433 147) < gN_ σ804 147 := Nat.lt_of_lt_of_le hc796 (hx1.2.1 147)
  have hc825 : (gN_ σ476 148) < gN_ σ804 148 := Nat.lt_of_lt_of_le hc797 (hx1.2.1 148)
  have hc826 : (gN_ σ521 150) < gN_ σ804 150 := Nat.lt_of_lt_of_le hc798 (hx1.2.1 150)
  have hc827 : (gN_ σ568 151) < gN_ σ804 151 := Nat.lt_of_lt_of_le hc799 (hx1.2.1 151)
  have hc828 : (gN_ σ617 152) < gN_ σ804 152 := Nat.lt_of_lt_of_le hc800 (hx1.2.1 152)
  have hc829 : (gN_ σ668 153) < gN_ σ804 153 := Nat.lt_of_lt_of_le hc801 (hx1.2.1 153)
  have hc830 : (gN_ σ721 154) < gN_ σ804 154 := Nat.lt_of_lt_of_le hc802 (hx1.2.1 154)
  have hc831 : gN_ σ776 155 < gN_ σ804 155 := by rw [e805]; exact nA_lt rfl
  rw [show ow_ 155 = 155 from rfl]
  have hl : lv_has ls 2 [(0, .ref (L 109 0))] := by rw [hx1.at hp803 (by decide)]; exact hl
  refine ww_stk (st1 := [.ref (L 155 (gN_ σ776 155)), .ref (L 109 0)]) (by rw [hx1.at hp803 (by decide)]) ?_
  have hx0 := hx0.trans hx1
  obtain ⟨hc832, hs⟩ := ww_chk hs
  have hpq : pr σ804 155 (gN_ σ776 155) := (pr_dy hc831 rfl rfl)
  rw [hc832] at hpq
  obtain ⟨σ833, e834, hs⟩ := ww_let hs
  refine ww_markF (d := (1, 155, 0)) hx hb hts hown (hnm.trans rfl) hW 109 0 45 0 (pr_dy hc806 rfl rfl) (tgd_1 hpq) (obv_0 rfl) rfl (by decide) (Nat.le_of_ble_eq_true rfl) in_X10 tyX10_ok nmX10 rfl (Nat.le_of_ble_eq_true rfl) (hts _ q1738) (fun _ h => h) rfl rfl rfl (fun _ => rfl) (fun _ => rfl) (by rw [hc832]; rfl) dX10_init_206 (fun H locs hW => ?_)
  have hW : wv g L σ833 s H locs := by rw [e834]; exact hW
  obtain ⟨hx0, hcs⟩ := lx_s (σ1 := σ833) hx0 hcs (by rw [e834]; exact (kp_M (by decide)))
  have hc835 : 0 < gN_ σ833 109 := by rw [e834]; exact hc806
  have hc836 : (gN_ σ 112) < gN_ σ833 112 := by rw [e834]; exact hc807
  have hc837 : (gN_ σ17 113) < gN_ σ833 113 := by rw [e834]; exact hc808
  have hc838 : (gN_ σ28 114) < gN_ σ833 114 := by rw [e834]; exact hc809
  have hc839 : (gN_ σ41 115) < gN_ σ833 115 := by rw [e834]; exact hc810
  have hc840 : (gN_ σ56 116) < gN_ σ833 116 := by rw [e834]; exact hc811
  have hc841 : (gN_ σ73 117) < gN_ σ833 117 := by rw [e834]; exact hc812
  have hc842 : (gN_ σ92 118) < gN_ σ833 118 := by rw [e834]; exact hc813
  have hc843 : (gN_ σ113 119) < gN_ σ833 119 := by rw [e834]; exact hc814
  have hc844 : (gN_ σ136 127) < gN_ σ833 127 := by rw [e834]; exact hc815
  have hc845 : (gN_ σ161 128) < gN_ σ833 128 := by rw [e834]; exact hc816
  have hc846 : (gN_ σ188 129) < gN_ σ833 129 := by rw [e834]; exact hc817
  have hc847 : (gN_ σ217 130) < gN_ σ833 130 := by rw [e834]; exact hc818
  have hc848 : (gN_ σ248 131) < gN_ σ833 131 := by rw [e834]; exact hc819
  have hc849 : (gN_ σ281 137) < gN_ σ833 137 := by rw [e834]; exact hc820
  have hc850 : (gN_ σ316 138) < gN_ σ833 138 := by rw [e834]; exact hc821
  have hc851 : (gN_ σ353 145) < gN_ σ833 145 := by rw [e834]; exact hc822
  have hc852 : (gN_ σ392 146) < gN_ σ833 146 := by rw [e834]; exact hc823
  have hc853 : (gN_ σ433 147) < gN_ σ833 147 := by rw [e834]; exact hc824
  have hc854 : (gN_ σ476 148) < gN_ σ833 148 := by rw [e834]; exact hc825
  have hc855 : (gN_ σ521 150) < gN_ σ833 150 := by rw [e834]; exact hc826
  have hc856 : (gN_ σ568 151) < gN_ σ833 151 := by rw [e834]; exact hc827
  have hc857 : (gN_ σ617 152) < gN_ σ833 152 := by rw [e834]; exact hc828
  have hc858 : (gN_ σ668 153) < gN_ σ833 153 := by rw [e834]; exact hc829
  have hc859 : (gN_ σ721 154) < gN_ σ833 154 := by rw [e834]; exact hc830
  have hc860 : (gN_ σ776 155) < gN_ σ833 155 := by rw [e834]; exact hc831
  refine lv_aload_n hx hb dX10_init_209 rfl (lv_at hl 0 rfl) ?_
  refine lv_bipush (v := 64) hx hb dX10_init_210 (by decide) ?_
  have hp861 : pr σ833 109 0 := (pr_dy hc835 rfl rfl)
  obtain ⟨σ862, e863, hs⟩ := ww_let hs
  obtain ⟨hs, hck⟩ := ww_ck1 hs
  have hrm1 := hcs.room (σ1 := σ862) (a := 1) (b := 64) (by rw [e863]; rfl) (by rw [e863]; rfl) hck
  refine ww_newa (atype := .int) hx hb (hts _ q201) hW 156 0 64 (Or.inl rfl) sole_156 (Or.inr hgm) rfl rfl rfl (by decide) rfl (Nat.le_of_ble_eq_true rfl) hrm1.1 hrm1.2 dX10_init_212 (fun H L hx1 hW => ?_)
  rw [← e863] at hx1 hW
  have hcs := hcs.more (σ1 := σ862) (a := 1) (b := 64) (by rw [e863]; rfl) (by rw [e863]; rfl)
  have hrm := hrm1
  have hc864 : 0 < gN_ σ862 109 := Nat.lt_of_lt_of_le hc835 (hx1.2.1 109)
  have hc865 : (gN_ σ 112) < gN_ σ862 112 := Nat.lt_of_lt_of_le hc836 (hx1.2.1 112)
  have hc866 : (gN_ σ17 113) < gN_ σ862 113 := Nat.lt_of_lt_of_le hc837 (hx1.2.1 113)
  have hc867 : (gN_ σ28 114) < gN_ σ862 114 := Nat.lt_of_lt_of_le hc838 (hx1.2.1 114)
  have hc868 : (gN_ σ41 115) < gN_ σ862 115 := Nat.lt_of_lt_of_le hc839 (hx1.2.1 115)
  have hc869 : (gN_ σ56 116) < gN_ σ862 116 := Nat.lt_of_lt_of_le hc840 (hx1.2.1 116)
  have hc870 : (gN_ σ73 117) < gN_ σ862 117 := Nat.lt_of_lt_of_le hc841 (hx1.2.1 117)
  have hc871 : (gN_ σ92 118) < gN_ σ862 118 := Nat.lt_of_lt_of_le hc842 (hx1.2.1 118)
  have hc872 : (gN_ σ113 119) < gN_ σ862 119 := Nat.lt_of_lt_of_le hc843 (hx1.2.1 119)
  have hc873 : (gN_ σ136 127) < gN_ σ862 127 := Nat.lt_of_lt_of_le hc844 (hx1.2.1 127)
  have hc874 : (gN_ σ161 128) < gN_ σ862 128 := Nat.lt_of_lt_of_le hc845 (hx1.2.1 128)
  have hc875 : (gN_ σ188 129) < gN_ σ862 129 := Nat.lt_of_lt_of_le hc846 (hx1.2.1 129)
  have hc876 : (gN_ σ217 130) < gN_ σ862 130 := Nat.lt_of_lt_of_le hc847 (hx1.2.1 130)
  have hc877 : (gN_ σ248 131) < gN_ σ862 131 := Nat.lt_of_lt_of_le hc848 (hx1.2.1 131)
  have hc878 : (gN_ σ281 137) < gN_ σ862 137 := Nat.lt_of_lt_of_le hc849 (hx1.2.1 137)
  have hc879 : (gN_ σ316 138) < gN_ σ862 138 := Nat.lt_of_lt_of_le hc850 (hx1.2.1 138)
  have hc880 : (gN_ σ353 145) < gN_ σ862 145 := Nat.lt_of_lt_of_le hc851 (hx1.2.1 145)
  have hc881 : (gN_ σ392 146) < gN_ σ862 146 := Nat.lt_of_lt_of_le hc852 (hx1.2.1 146)
  have hc882 : (gN_ σ433 147) < gN_ σ862 147 := Nat.lt_of_lt_of_le hc853 (hx1.2.1 147)
  have hc883 : (gN_ σ476 148) < gN_ σ862 148 := Nat.lt_of_lt_of_le hc854 (hx1.2.1 148)
  have hc884 : (gN_ σ521 150) < gN_ σ862 150 := Nat.lt_of_lt_of_le hc855 (hx1.2.1 150)
  have hc885 : (gN_ σ568 151) < gN_ σ862 151 := Nat.lt_of_lt_of_le hc856 (hx1.2.1 151)
  have hc886 : (gN_ σ617 152) < gN_ σ862 152 := Nat.lt_of_lt_of_le hc857 (hx1.2.1 152)
  have hc887 : (gN_ σ668 153) < gN_ σ862 153 := Nat.lt_of_lt_of_le hc858 (hx1.2.1 153)
  have hc888 : (gN_ σ721 154) < gN_ σ862 154 := Nat.lt_of_lt_of_le hc859 (hx1.2.1 154)
  have hc889 : (gN_ σ776 155) < gN_ σ862 155 := Nat.lt_of_lt_of_le hc860 (hx1.2.1 155)
  have hc890 : gN_ σ833 156 < gN_ σ862 156 := by rw [e863]; exact nA_lt rfl
  rw [show ow_ 156 = 156 from rfl]
  have hl : lv_has ls 2 [(0, .ref (L 109 0))] := by rw [hx1.at hp861 (by decide)]; exact hl
  refine ww_stk (st1 := [.ref (L 156 (gN_ σ833 156)), .ref (L 109 0)]) (by rw [hx1.at hp861 (by decide)]) ?_
  have hx0 := hx0.trans hx1
  obtain ⟨hc891, hs⟩ := ww_chk hs
  have hpq : pr σ862 156 (gN_ σ833 156) := (pr_dy hc890 rfl rfl)
  rw [hc891] at hpq
  obtain ⟨σ892, e893, hs⟩ := ww_let hs
  refine ww_markF (d := (1, 156, 0)) hx hb hts hown (hnm.trans rfl) hW 109 0 46 0 (pr_dy hc864 rfl rfl) (tgd_1 hpq) (obv_0 rfl) rfl (by decide) (Nat.le_of_ble_eq_true rfl) in_X10 tyX10_ok nmX10 rfl (Nat.le_of_ble_eq_true rfl) (hts _ q1739) (fun _ h => h) rfl rfl rfl (fun _ => rfl) (fun _ => rfl) (by rw [hc891]; rfl) dX10_init_214 (fun H locs hW => ?_)
  have hW : wv g L σ892 s H locs := by rw [e893]; exact hW
  obtain ⟨hx0, hcs⟩ := lx_s (σ1 := σ892) hx0 hcs (by rw [e893]; exact (kp_M (by decide)))
  have hc894 : 0 < gN_ σ892 109 := by rw [e893]; exact hc864
  have hc895 : (gN_ σ 112) < gN_ σ892 112 := by rw [e893]; exact hc865
  have hc896 : (gN_ σ17 113) < gN_ σ892 113 := by rw [e893]; exact hc866
  have hc897 : (gN_ σ28 114) < gN_ σ892 114 := by rw [e893]; exact hc867
  have hc898 : (gN_ σ41 115) < gN_ σ892 115 := by rw [e893]; exact hc868
  have hc899 : (gN_ σ56 116) < gN_ σ892 116 := by rw [e893]; exact hc869
  have hc900 : (gN_ σ73 117) < gN_ σ892 117 := by rw [e893]; exact hc870
  have hc901 : (gN_ σ92 118) < gN_ σ892 118 := by rw [e893]; exact hc871
  have hc902 : (gN_ σ113 119) < gN_ σ892 119 := by rw [e893]; exact hc872
  have hc903 : (gN_ σ136 127) < gN_ σ892 127 := by rw [e893]; exact hc873
  have hc904 : (gN_ σ161 128) < gN_ σ892 128 := by rw [e893]; exact hc874
  have hc905 : (gN_ σ188 129) < gN_ σ892 129 := by rw [e893]; exact hc875
  have hc906 : (gN_ σ217 130) < gN_ σ892 130 := by rw [e893]; exact hc876
  have hc907 : (gN_ σ248 131) < gN_ σ892 131 := by rw [e893]; exact hc877
  have hc908 : (gN_ σ281 137) < gN_ σ892 137 := by rw [e893]; exact hc878
  have hc909 : (gN_ σ316 138) < gN_ σ892 138 := by rw [e893]; exact hc879
  have hc910 : (gN_ σ353 145) < gN_ σ892 145 := by rw [e893]; exact hc880
  have hc911 : (gN_ σ392 146) < gN_ σ892 146 := by rw [e893]; exact hc881
  have hc912 : (gN_ σ433 147) < gN_ σ892 147 := by rw [e893]; exact hc882
  have hc913 : (gN_ σ476 148) < gN_ σ892 148 := by rw [e893]; exact hc883
  have hc914 : (gN_ σ521 150) < gN_ σ892 150 := by rw [e893]; exact hc884
  have hc915 : (gN_ σ568 151) < gN_ σ892 151 := by rw [e893]; exact hc885
  have hc916 : (gN_ σ617 152) < gN_ σ892 152 := by rw [e893]; exact hc886
  have hc917 : (gN_ σ668 153) < gN_ σ892 153 := by rw [e893]; exact hc887
  have hc918 : (gN_ σ721 154) < gN_ σ892 154 := by rw [e893]; exact hc888
  have hc919 : (gN_ σ776 155) < gN_ σ892 155 := by rw [e893]; exact hc889
  have hc920 : (gN_ σ833 156) < gN_ σ892 156 := by rw [e893]; exact hc890
  refine lv_aload_n hx hb dX10_init_217 rfl (lv_at hl 0 rfl) ?_
  refine lv_bipush (v := 64) hx hb dX10_init_218 (by decide) ?_
  have hp921 : pr σ892 109 0 := (pr_dy hc894 rfl rfl)
  obtain ⟨σ922, e923, hs⟩ := ww_let hs
  obtain ⟨hs, hck⟩ := ww_ck1 hs
  have hrm1 := hcs.room (σ1 := σ922) (a := 1) (b := 64) (by rw [e923]; rfl) (by rw [e923]; rfl) hck
  refine ww_newa (atype := .int) hx hb (hts _ q201) hW 157 0 64 (Or.inl rfl) sole_157 (Or.inr hgm) rfl rfl rfl (by decide) rfl (Nat.le_of_ble_eq_true rfl) hrm1.1 hrm1.2 dX10_init_220 (fun H L hx1 hW => ?_)
  rw [← e923] at hx1 hW
  have hcs := hcs.more (σ1 := σ922) (a := 1) (b := 64) (by rw [e923]; rfl) (by rw [e923]; rfl)
  have hrm := hrm1
  have hc924 : 0 < gN_ σ922 109 := Nat.lt_of_lt_of_le hc894 (hx1.2.1 109)
  have hc925 : (gN_ σ 112) < gN_ σ922 112 := Nat.lt_of_lt_of_le hc895 (hx1.2.1 112)
  have hc926 : (gN_ σ17 113) < gN_ σ922 113 := Nat.lt_of_lt_of_le hc896 (hx1.2.1 113)
  have hc927 : (gN_ σ28 114) < gN_ σ922 114 := Nat.lt_of_lt_of_le hc897 (hx1.2.1 114)
  have hc928 : (gN_ σ41 115) < gN_ σ922 115 := Nat.lt_of_lt_of_le hc898 (hx1.2.1 115)
  have hc929 : (gN_ σ56 116) < gN_ σ922 116 := Nat.lt_of_lt_of_le hc899 (hx1.2.1 116)
  have hc930 : (gN_ σ73 117) < gN_ σ922 117 := Nat.lt_of_lt_of_le hc900 (hx1.2.1 117)
  have hc931 : (gN_ σ92 118) < gN_ σ922 118 := Nat.lt_of_lt_of_le hc901 (hx1.2.1 118)
  have hc932 : (gN_ σ113 119) < gN_ σ922 119 := Nat.lt_of_lt_of_le hc902 (hx1.2.1 119)
  have hc933 : (gN_ σ136 127) < gN_ σ922 127 := Nat.lt_of_lt_of_le hc903 (hx1.2.1 127)
  have hc934 : (gN_ σ161 128) < gN_ σ922 128 := Nat.lt_of_lt_of_le hc904 (hx1.2.1 128)
  have hc935 : (gN_ σ188 129) < gN_ σ922 129 := Nat.lt_of_lt_of_le hc905 (hx1.2.1 129)
  have hc936 : (gN_ σ217 130) < gN_ σ922 130 := Nat.lt_of_lt_of_le hc906 (hx1.2.1 130)
  have hc937 : (gN_ σ248 131) < gN_ σ922 131 := Nat.lt_of_lt_of_le hc907 (hx1.2.1 131)
  have hc938 : (gN_ σ281 137) < gN_ σ922 137 := Nat.lt_of_lt_of_le hc908 (hx1.2.1 137)
  have hc939 : (gN_ σ316 138) < gN_ σ922 138 := Nat.lt_of_lt_of_le hc909 (hx1.2.1 138)
  have hc940 : (gN_ σ353 145) < gN_ σ922 145 := Nat.lt_of_lt_of_le hc910 (hx1.2.1 145)
  have hc941 : (gN_ σ392 146) < gN_ σ922 146 := Nat.lt_of_lt_of_le hc911 (hx1.2.1 146)
  have hc942 : (gN_ σ433 147) < gN_ σ922 147 := Nat.lt_of_lt_of_le hc912 (hx1.2.1 147)
  have hc943 : (gN_ σ476 148) < gN_ σ922 148 := Nat.lt_of_lt_of_le hc913 (hx1.2.1 148)
  have hc944 : (gN_ σ521 150) < gN_ σ922 150 := Nat.lt_of_lt_of_le hc914 (hx1.2.1 150)
  have hc945 : (gN_ σ568 151) < gN_ σ922 151 := Nat.lt_of_lt_of_le hc915 (hx1.2.1 151)
  have hc946 : (gN_ σ617 152) < gN_ σ922 152 := Nat.lt_of_lt_of_le hc916 (hx1.2.1 152)
  have hc947 : (gN_ σ668 153) < gN_ σ922 153 := Nat.lt_of_lt_of_le hc917 (hx1.2.1 153)
  have hc948 : (gN_ σ721 154) < gN_ σ922 154 := Nat.lt_of_lt_of_le hc918 (hx1.2.1 154)
  have hc949 : (gN_ σ776 155) < gN_ σ922 155 := Nat.lt_of_lt_of_le hc919 (hx1.2.1 155)
  have hc950 : (gN_ σ833 156) < gN_ σ922 156 := Nat.lt_of_lt_of_le hc920 (hx1.2.1 156)
  have hc951 : gN_ σ892 157 < gN_ σ922 157 := by rw [e923]; exact nA_lt rfl
  rw [show ow_ 157 = 157 from rfl]
  have hl : lv_has ls 2 [(0, .ref (L 109 0))] := by rw [hx1.at hp921 (by decide)]; exact hl
  refine ww_stk (st1 := [.ref (L 157 (gN_ σ892 157)), .ref (L 109 0)]) (by rw [hx1.at hp921 (by decide)]) ?_
  have hx0 := hx0.trans hx1
  obtain ⟨hc952, hs⟩ := ww_chk hs
  have hpq : pr σ922 157 (gN_ σ892 157) := (pr_dy hc951 rfl rfl)
  rw [hc952] at hpq
  obtain ⟨σ953, e954, hs⟩ := ww_let hs
  refine ww_markF (d := (1, 157, 0)) hx hb hts hown (hnm.trans rfl) hW 109 0 47 0 (pr_dy hc924 rfl rfl) (tgd_1 hpq) (obv_0 rfl) rfl (by decide) (Nat.le_of_ble_eq_true rfl) in_X10 tyX10_ok nmX10 rfl (Nat.le_of_ble_eq_true rfl) (hts _ q1740) (fun _ h => h) rfl rfl rfl (fun _ => rfl) (fun _ => rfl) (by rw [hc952]; rfl) dX10_init_222 (fun H locs hW => ?_)
  have hW : wv g L σ953 s H locs := by rw [e954]; exact hW
  obtain ⟨hx0, hcs⟩ := lx_s (σ1 := σ953) hx0 hcs (by rw [e954]; exact (kp_M (by decide)))
  have hc955 : 0 < gN_ σ953 109 := by rw [e954]; exact hc924
  have hc956 : (gN_ σ 112) < gN_ σ953 112 := by rw [e954]; exact hc925
  have hc957 : (gN_ σ17 113) < gN_ σ953 113 := by rw [e954]; exact hc926
  have hc958 : (gN_ σ28 114) < gN_ σ953 114 := by rw [e954]; exact hc927
  have hc959 : (gN_ σ41 115) < gN_ σ953 115 := by rw [e954]; exact hc928
  have hc960 : (gN_ σ56 116) < gN_ σ953 116 := by rw [e954]; exact hc929
  have hc961 : (gN_ σ73 117) < gN_ σ953 117 := by rw [e954]; exact hc930
  have hc962 : (gN_ σ92 118) < gN_ σ953 118 := by rw [e954]; exact hc931
  have hc963 : (gN_ σ113 119) < gN_ σ953 119 := by rw [e954]; exact hc932
  have hc964 : (gN_ σ136 127) < gN_ σ953 127 := by rw [e954]; exact hc933
  have hc965 : (gN_ σ161 128) < gN_ σ953 128 := by rw [e954]; exact hc934
  have hc966 : (gN_ σ188 129) < gN_ σ953 129 := by rw [e954]; exact hc935
  have hc967 : (gN_ σ217 130) < gN_ σ953 130 := by rw [e954]; exact hc936
  have hc968 : (gN_ σ248 131) < gN_ σ953 131 := by rw [e954]; exact hc937
  have hc969 : (gN_ σ281 137) < gN_ σ953 137 := by rw [e954]; exact hc938
  have hc970 : (gN_ σ316 138) < gN_ σ953 138 := by rw [e954]; exact hc939
  have hc971 : (gN_ σ353 145) < gN_ σ953 145 := by rw [e954]; exact hc940
  have hc972 : (gN_ σ392 146) < gN_ σ953 146 := by rw [e954]; exact hc941
  have hc973 : (gN_ σ433 147) < gN_ σ953 147 := by rw [e954]; exact hc942
  have hc974 : (gN_ σ476 148) < gN_ σ953 148 := by rw [e954]; exact hc943
  have hc975 : (gN_ σ521 150) < gN_ σ953 150 := by rw [e954]; exact hc944
  have hc976 : (gN_ σ568 151) < gN_ σ953 151 := by rw [e954]; exact hc945
  have hc977 : (gN_ σ617 152) < gN_ σ953 152 := by rw [e954]; exact hc946
  have hc978 : (gN_ σ668 153) < gN_ σ953 153 := by rw [e954]; exact hc947
  have hc979 : (gN_ σ721 154) < gN_ σ953 154 := by rw [e954]; exact hc948
  have hc980 : (gN_ σ776 155) < gN_ σ953 155 := by rw [e954]; exact hc949
  have hc981 : (gN_ σ833 156) < gN_ σ953 156 := by rw [e954]; exact hc950
  have hc982 : (gN_ σ892 157) < gN_ σ953 157 := by rw [e954]; exact hc951
  refine lv_aload_n hx hb dX10_init_225 rfl (lv_at hl 0 rfl) ?_
  refine lv_bipush (v := 64) hx hb dX10_init_226 (by decide) ?_
  have hp983 : pr σ953 109 0 := (pr_dy hc955 rfl rfl)
  obtain ⟨σ984, e985, hs⟩ := ww_let hs
  obtain ⟨hs, hck⟩ := ww_ck1 hs
  have hrm1 := hcs.room (σ1 := σ984) (a := 1) (b := 64) (by rw [e985]; rfl) (by rw [e985]; rfl) hck
  refine ww_newa (atype := .int) hx hb (hts _ q201) hW 158 0 64 (Or.inl rfl) sole_158 (Or.inr hgm) rfl rfl rfl (by decide) rfl (Nat.le_of_ble_eq_true rfl) hrm1.1 hrm1.2 dX10_init_228 (fun H L hx1 hW => ?_)
  rw [← e985] at hx1 hW
  have hcs := hcs.more (σ1 := σ984) (a := 1) (b := 64) (by rw [e985]; rfl) (by rw [e985]; rfl)
  have hrm := hrm1
  have hc986 : 0 < gN_ σ984 109 := Nat.lt_of_lt_of_le hc955 (hx1.2.1 109)
  have hc987 : (gN_ σ 112) < gN_ σ984 112 := Nat.lt_of_lt_of_le hc956 (hx1.2.1 112)
  have hc988 : (gN_ σ17 113) < gN_ σ984 113 := Nat.lt_of_lt_of_le hc957 (hx1.2.1 113)
  have hc989 : (gN_ σ28 114) < gN_ σ984 114 := Nat.lt_of_lt_of_le hc958 (hx1.2.1 114)
  have hc990 : (gN_ σ41 115) < gN_ σ984 115 := Nat.lt_of_lt_of_le hc959 (hx1.2.1 115)
  have hc991 : (gN_ σ56 116) < gN_ σ984 116 := Nat.lt_of_lt_of_le hc960 (hx1.2.1 116)
  have hc992 : (gN_ σ73 117) < gN_ σ984 117 := Nat.lt_of_lt_of_le hc961 (hx1.2.1 117)
  have hc993 : (gN_ σ92 118) < gN_ σ984 118 := Nat.lt_of_lt_of_le hc962 (hx1.2.1 118)
  have hc994 : (gN_ σ113 119) < gN_ σ984 119 := Nat.lt_of_lt_of_le hc963 (hx1.2.1 119)
  have hc995 : (gN_ σ136 127) < gN_ σ984 127 := Nat.lt_of_lt_of_le hc964 (hx1.2.1 127)
  have hc996 : (gN_ σ161 128) < gN_ σ984 128 := Nat.lt_of_lt_of_le hc965 (hx1.2.1 128)
  have hc997 : (gN_ σ188 129) < gN_ σ984 129 := Nat.lt_of_lt_of_le hc966 (hx1.2.1 129)
  have hc998 : (gN_ σ217 130) < gN_ σ984 130 := Nat.lt_of_lt_of_le hc967 (hx1.2.1 130)
  have hc999 : (gN_ σ248 131) < gN_ σ984 131 := Nat.lt_of_lt_of_le hc968 (hx1.2.1 131)
  have hc1000 : (gN_ σ281 137) < gN_ σ984 137 := Nat.lt_of_lt_of_le hc969 (hx1.2.1 137)
  have hc1001 : (gN_ σ316 138) < gN_ σ984 138 := Nat.lt_of_lt_of_le hc970 (hx1.2.1 138)
  have hc1002 : (gN_ σ353 145) < gN_ σ984 145 := Nat.lt_of_lt_of_le hc971 (hx1.2.1 145)
  have hc1003 : (gN_ σ392 146) < gN_ σ984 146 := Nat.lt_of_lt_of_le hc972 (hx1.2.1 146)
  have hc1004 : (gN_ σ433 147) < gN_ σ984 147 := Nat.lt_of_lt_of_le hc973 (hx1.2.1 147)
  have hc1005 : (gN_ σ476 148) < gN_ σ984 148 := Nat.lt_of_lt_of_le hc974 (hx1.2.1 148)
  have hc1006 : (gN_ σ521 150) < gN_ σ984 150 := Nat.lt_of_lt_of_le hc975 (hx1.2.1 150)
  have hc1007 : (gN_ σ568 151) < gN_ σ984 151 := Nat.lt_of_lt_of_le hc976 (hx1.2.1 151)
  have hc1008 : (gN_ σ617 152) < gN_ σ984 152 := Nat.lt_of_lt_of_le hc977 (hx1.2.1 152)
  have hc1009 : (gN_ σ668 153) < gN_ σ984 153 := Nat.lt_of_lt_of_le hc978 (hx1.2.1 153)
  have hc1010 : (gN_ σ721 154) < gN_ σ984 154 := Nat.lt_of_lt_of_le hc979 (hx1.2.1 154)
  have hc1011 : (gN_ σ776 155) < gN_ σ984 155 := Nat.lt_of_lt_of_le hc980 (hx1.2.1 155)
  have hc1012 : (gN_ σ833 156) < gN_ σ984 156 := Nat.lt_of_lt_of_le hc981 (hx1.2.1 156)
  have hc1013 : (gN_ σ892 157) < gN_ σ984 157 := Nat.lt_of_lt_of_le hc982 (hx1.2.1 157)
  have hc1014 : gN_ σ953 158 < gN_ σ984 158 := by rw [e985]; exact nA_lt rfl
  rw [show ow_ 158 = 158 from rfl]
  have hl : lv_has ls 2 [(0, .ref (L 109 0))] := by rw [hx1.at hp983 (by decide)]; exact hl
  refine ww_stk (st1 := [.ref (L 158 (gN_ σ953 158)), .ref (L 109 0)]) (by rw [hx1.at hp983 (by decide)]) ?_
  have hx0 := hx0.trans hx1
  obtain ⟨hc1015, hs⟩ := ww_chk hs
  have hpq : pr σ984 158 (gN_ σ953 158) := (pr_dy hc1014 rfl rfl)
  rw [hc1015] at hpq
  obtain ⟨σ1016, e1017, hs⟩ := ww_let hs
  refine ww_markF (d := (1, 158, 0)) hx hb hts hown (hnm.trans rfl) hW 109 0 48 0 (pr_dy hc986 rfl rfl) (tgd_1 hpq) (obv_0 rfl) rfl (by decide) (Nat.le_of_ble_eq_true rfl) in_X10 tyX10_ok nmX10 rfl (Nat.le_of_ble_eq_true rfl) (hts _ q1741) (fun _ h => h) rfl rfl rfl (fun _ => rfl) (fun _ => rfl) (by rw [hc1015]; rfl) dX10_init_230 (fun H locs hW => ?_)
  have hW : wv g L σ1016 s H locs := by rw [e1017]; exact hW
  obtain ⟨hx0, hcs⟩ := lx_s (σ1 := σ1016) hx0 hcs (by rw [e1017]; exact (kp_M (by decide)))
  have hc1018 : 0 < gN_ σ1016 109 := by rw [e1017]; exact hc986
  have hc1019 : (gN_ σ 112) < gN_ σ1016 112 := by rw [e1017]; exact hc987
  have hc1020 : (gN_ σ17 113) < gN_ σ1016 113 := by rw [e1017]; exact hc988
  have hc1021 : (gN_ σ28 114) < gN_ σ1016 114 := by rw [e1017]; exact hc989
  have hc1022 : (gN_ σ41 115) < gN_ σ1016 115 := by rw [e1017]; exact hc990
  have hc1023 : (gN_ σ56 116) < gN_ σ1016 116 := by rw [e1017]; exact hc991
  have hc1024 : (gN_ σ73 117) < gN_ σ1016 117 := by rw [e1017]; exact hc992
  have hc1025 : (gN_ σ92 118) < gN_ σ1016 118 := by rw [e1017]; exact hc993
  have hc1026 : (gN_ σ113 119) < gN_ σ1016 119 := by rw [e1017]; exact hc994
  have hc1027 : (gN_ σ136 127) < gN_ σ1016 127 := by rw [e1017]; exact hc995
  have hc1028 : (gN_ σ161 128) < gN_ σ1016 128 := by rw [e1017]; exact hc996
  have hc1029 : (gN_ σ188 129) < gN_ σ1016 129 := by rw [e1017]; exact hc997
  have hc1030 : (gN_ σ217 130) < gN_ σ1016 130 := by rw [e1017]; exact hc998
  have hc1031 : (gN_ σ248 131) < gN_ σ1016 131 := by rw [e1017]; exact hc999
  have hc1032 : (gN_ σ281 137) < gN_ σ1016 137 := by rw [e1017]; exact hc1000
  have hc1033 : (gN_ σ316 138) < gN_ σ1016 138 := by rw [e1017]; exact hc1001
  have hc1034 : (gN_ σ353 145) < gN_ σ1016 145 := by rw [e1017]; exact hc1002
  have hc1035 : (gN_ σ392 146) < gN_ σ1016 146 := by rw [e1017]; exact hc1003
  have hc1036 : (gN_ σ433 147) < gN_ σ1016 147 := by rw [e1017]; exact hc1004
  have hc1037 : (gN_ σ476 148) < gN_ σ1016 148 := by rw [e1017]; exact hc1005
  have hc1038 : (gN_ σ521 150) < gN_ σ1016 150 := by rw [e1017]; exact hc1006
  have hc1039 : (gN_ σ568 151) < gN_ σ1016 151 := by rw [e1017]; exact hc1007
  have hc1040 : (gN_ σ617 152) < gN_ σ1016 152 := by rw [e1017]; exact hc1008
  have hc1041 : (gN_ σ668 153) < gN_ σ1016 153 := by rw [e1017]; exact hc1009
  have hc1042 : (gN_ σ721 154) < gN_ σ1016 154 := by rw [e1017]; exact hc1010
  have hc1043 : (gN_ σ776 155) < gN_ σ1016 155 := by rw [e1017]; exact hc1011
  have hc1044 : (gN_ σ833 156) < gN_ σ1016 156 := by rw [e1017]; exact hc1012
  have hc1045 : (gN_ σ892 157) < gN_ σ1016 157 := by rw [e1017]; exact hc1013
  have hc1046 : (gN_ σ953 158) < gN_ σ1016 158 := by rw [e1017]; exact hc1014
  refine lv_aload_n hx hb dX10_init_233 rfl (lv_at hl 0 rfl) ?_
  refine lv_bipush (v := 10) hx hb dX10_init_234 (by decide) ?_
  have hp1047 : pr σ1016 109 0 := (pr_dy hc1018 rfl rfl)
  obtain ⟨σ1048, e1049, hs⟩ := ww_let hs
  obtain ⟨hs, hck⟩ := ww_ck1 hs
  have hrm1 := hcs.room (σ1 := σ1048) (a := 1) (b := 10) (by rw [e1049]; rfl) (by rw [e1049]; rfl) hck
  refine ww_newa (atype := .int) hx hb (hts _ q201) hW 163 0 10 (Or.inl rfl) sole_163 (Or.inr hgm) rfl rfl rfl (by decide) rfl (Nat.le_of_ble_eq_true rfl) hrm1.1 hrm1.2 dX10_init_236 (fun H L hx1 hW => ?_)
  rw [← e1049] at hx1 hW
  have hcs := hcs.more (σ1 := σ1048) (a := 1) (b := 10) (by rw [e1049]; rfl) (by rw [e1049]; rfl)
  have hrm := hrm1
  have hc1050 : 0 < gN_ σ1048 109 := Nat.lt_of_lt_of_le hc1018 (hx1.2.1 109)
  have hc1051 : (gN_ σ 112) < gN_ σ1048 112 := Nat.lt_of_lt_of_le hc1019 (hx1.2.1 112)
  have hc1052 : (gN_ σ17 113) < gN_ σ1048 113 := Nat.lt_of_lt_of_le hc1020 (hx1.2.1 113)
  have hc1053 : (gN_ σ28 114) < gN_ σ1048 114 := Nat.lt_of_lt_of_le hc1021 (hx1.2.1 114)
  have hc1054 : (gN_ σ41 115) < gN_ σ1048 115 := Nat.lt_of_lt_of_le hc1022 (hx1.2.1 115)
  have hc1055 : (gN_ σ56 116) < gN_ σ1048 116 := Nat.lt_of_lt_of_le hc1023 (hx1.2.1 116)
  have hc1056 : (gN_ σ73 117) < gN_ σ1048 117 := Nat.lt_of_lt_of_le hc1024 (hx1.2.1 117)
  have hc1057 : (gN_ σ92 118) < gN_ σ1048 118 := Nat.lt_of_lt_of_le hc1025 (hx1.2.1 118)
  have hc1058 : (gN_ σ113 119) < gN_ σ1048 119 := Nat.lt_of_lt_of_le hc1026 (hx1.2.1 119)
  have hc1059 : (gN_ σ136 127) < gN_ σ1048 127 := Nat.lt_of_lt_of_le hc1027 (hx1.2.1 127)
  have hc1060 : (gN_ σ161 128) < gN_ σ1048 128 := Nat.lt_of_lt_of_le hc1028 (hx1.2.1 128)
  have hc1061 : (gN_ σ188 129) < gN_ σ1048 129 := Nat.lt_of_lt_of_le hc1029 (hx1.2.1 129)
  have hc1062 : (gN_ σ217 130) < gN_ σ1048 130 := Nat.lt_of_lt_of_le hc1030 (hx1.2.1 130)
  have hc1063 : (gN_ σ248 131) < gN_ σ1048 131 := Nat.lt_of_lt_of_le hc1031 (hx1.2.1 131)
  have hc1064 : (gN_ σ281 137) < gN_ σ1048 137 := Nat.lt_of_lt_of_le hc1032 (hx1.2.1 137)
  have hc1065 : (gN_ σ316 138) < gN_ σ1048 138 := Nat.lt_of_lt_of_le hc1033 (hx1.2.1 138)
  have hc1066 : (gN_ σ353 145) < gN_ σ1048 145 := Nat.lt_of_lt_of_le hc1034 (hx1.2.1 145)
  have hc1067 : (gN_ σ392 146) < gN_ σ1048 146 := Nat.lt_of_lt_of_le hc1035 (hx1.2.1 146)
  have hc1068 : (gN_ σ433 147) < gN_ σ1048 147 := Nat.lt_of_lt_of_le hc1036 (hx1.2.1 147)
  have hc1069 : (gN_ σ476 148) < gN_ σ1048 148 := Nat.lt_of_lt_of_le hc1037 (hx1.2.1 148)
  have hc1070 : (gN_ σ521 150) < gN_ σ1048 150 := Nat.lt_of_lt_of_le hc1038 (hx1.2.1 150)
  have hc1071 : (gN_ σ568 151) < gN_ σ1048 151 := Nat.lt_of_lt_of_le hc1039 (hx1.2.1 151)
  have hc1072 : (gN_ σ617 152) < gN_ σ1048 152 := Nat.lt_of_lt_of_le hc1040 (hx1.2.1 152)
  have hc1073 : (gN_ σ668 153) < gN_ σ1048 153 := Nat.lt_of_lt_of_le hc1041 (hx1.2.1 153)
  have hc1074 : (gN_ σ721 154) < gN_ σ1048 154 := Nat.lt_of_lt_of_le hc1042 (hx1.2.1 154)
  have hc1075 : (gN_ σ776 155) < gN_ σ1048 155 := Nat.lt_of_lt_of_le hc1043 (hx1.2.1 155)
  have hc1076 : (gN_ σ833 156) < gN_ σ1048 156 := Nat.lt_of_lt_of_le hc1044 (hx1.2.1 156)
  have hc1077 : (gN_ σ892 157) < gN_ σ1048 157 := Nat.lt_of_lt_of_le hc1045 (hx1.2.1 157)
  have hc1078 : (gN_ σ953 158) < gN_ σ1048 158 := Nat.lt_of_lt_of_le hc1046 (hx1.2.1 158)
  have hc1079 : gN_ σ1016 163 < gN_ σ1048 163 := by rw [e1049]; exact nA_lt rfl
  rw [show ow_ 163 = 163 from rfl]
  have hl : lv_has ls 2 [(0, .ref (L 109 0))] := by rw [hx1.at hp1047 (by decide)]; exact hl
  refine ww_stk (st1 := [.ref (L 163 (gN_ σ1016 163)), .ref (L 109 0)]) (by rw [hx1.at hp1047 (by decide)]) ?_
  have hx0 := hx0.trans hx1
  obtain ⟨hc1080, hs⟩ := ww_chk hs
  have hpq : pr σ1048 163 (gN_ σ1016 163) := (pr_dy hc1079 rfl rfl)
  rw [hc1080] at hpq
  obtain ⟨σ1081, e1082, hs⟩ := ww_let hs
  refine ww_markF (d := (1, 163, 0)) hx hb hts hown (hnm.trans rfl) hW 109 0 53 0 (pr_dy hc1050 rfl rfl) (tgd_1 hpq) (obv_0 rfl) rfl (by decide) (Nat.le_of_ble_eq_true rfl) in_X10 tyX10_ok nmX10 rfl (Nat.le_of_ble_eq_true rfl) (hts _ q1746) (fun _ h => h) rfl rfl rfl (fun _ => rfl) (fun _ => rfl) (by rw [hc1080]; rfl) dX10_init_238 (fun H locs hW => ?_)
  have hW : wv g L σ1081 s H locs := by rw [e1082]; exact hW
  obtain ⟨hx0, hcs⟩ := lx_s (σ1 := σ1081) hx0 hcs (by rw [e1082]; exact (kp_M (by decide)))
  have hc1083 : 0 < gN_ σ1081 109 := by rw [e1082]; exact hc1050
  have hc1084 : (gN_ σ 112) < gN_ σ1081 112 := by rw [e1082]; exact hc1051
  have hc1085 : (gN_ σ17 113) < gN_ σ1081 113 := by rw [e1082]; exact hc1052
  have hc1086 : (gN_ σ28 114) < gN_ σ1081 114 := by rw [e1082]; exact hc1053
  have hc1087 : (gN_ σ41 115) < gN_ σ1081 115 := by rw [e1082]; exact hc1054
  have hc1088 : (gN_ σ56 116) < gN_ σ1081 116 := by rw [e1082]; exact hc1055
  have hc1089 : (gN_ σ73 117) < gN_ σ1081 117 := by rw [e1082]; exact hc1056
  have hc1090 : (gN_ σ92 118) < gN_ σ1081 118 := by rw [e1082]; exact hc1057
  have hc1091 : (gN_ σ113 119) < gN_ σ1081 119 := by rw [e1082]; exact hc1058
  have hc1092 : (gN_ σ136 127) < gN_ σ1081 127 := by rw [e1082]; exact hc1059
  have hc1093 : (gN_ σ161 128) < gN_ σ1081 128 := by rw [e1082]; exact hc1060
  have hc1094 : (gN_ σ188 129) < gN_ σ1081 129 := by rw [e1082]; exact hc1061
  have hc1095 : (gN_ σ217 130) < gN_ σ1081 130 := by rw [e1082]; exact hc1062
  have hc1096 : (gN_ σ248 131) < gN_ σ1081 131 := by rw [e1082]; exact hc1063
  have hc1097 : (gN_ σ281 137) < gN_ σ1081 137 := by rw [e1082]; exact hc1064
  have hc1098 : (gN_ σ316 138) < gN_ σ1081 138 := by rw [e1082]; exact hc1065
  have hc1099 : (gN_ σ353 145) < gN_ σ1081 145 := by rw [e1082]; exact hc1066
  have hc1100 : (gN_ σ392 146) < gN_ σ1081 146 := by rw [e1082]; exact hc1067
  have hc1101 : (gN_ σ433 147) < gN_ σ1081 147 := by rw [e1082]; exact hc1068
  have hc1102 : (gN_ σ476 148) < gN_ σ1081 148 := by rw [e1082]; exact hc1069
  have hc1103 : (gN_ σ521 150) < gN_ σ1081 150 := by rw [e1082]; exact hc1070
  have hc1104 : (gN_ σ568 151) < gN_ σ1081 151 := by rw [e1082]; exact hc1071
  have hc1105 : (gN_ σ617 152) < gN_ σ1081 152 := by rw [e1082]; exact hc1072
  have hc1106 : (gN_ σ668 153) < gN_ σ1081 153 := by rw [e1082]; exact hc1073
  have hc1107 : (gN_ σ721 154) < gN_ σ1081 154 := by rw [e1082]; exact hc1074
  have hc1108 : (gN_ σ776 155) < gN_ σ1081 155 := by rw [e1082]; exact hc1075
  have hc1109 : (gN_ σ833 156) < gN_ σ1081 156 := by rw [e1082]; exact hc1076
  have hc1110 : (gN_ σ892 157) < gN_ σ1081 157 := by rw [e1082]; exact hc1077
  have hc1111 : (gN_ σ953 158) < gN_ σ1081 158 := by rw [e1082]; exact hc1078
  have hc1112 : (gN_ σ1016 163) < gN_ σ1081 163 := by rw [e1082]; exact hc1079
  refine lv_aload_n hx hb dX10_init_241 rfl (lv_at hl 0 rfl) ?_
  refine lv_bipush (v := 10) hx hb dX10_init_242 (by decide) ?_
  have hp1113 : pr σ1081 109 0 := (pr_dy hc1083 rfl rfl)
  obtain ⟨σ1114, e1115, hs⟩ := ww_let hs
  obtain ⟨hs, hck⟩ := ww_ck1 hs
  have hrm1 := hcs.room (σ1 := σ1114) (a := 1) (b := 10) (by rw [e1115]; rfl) (by rw [e1115]; rfl) hck
  refine ww_newa (atype := .int) hx hb (hts _ q201) hW 164 0 10 (Or.inl rfl) sole_164 (Or.inr hgm) rfl rfl rfl (by decide) rfl (Nat.le_of_ble_eq_true rfl) hrm1.1 hrm1.2 dX10_init_244 (fun H L hx1 hW => ?_)
  rw [← e1115] at hx1 hW
  have hcs := hcs.more (σ1 := σ1114) (a := 1) (b := 10) (by rw [e1115]; rfl) (by rw [e1115]; rfl)
  have hrm := hrm1
  have hc1116 : 0 < gN_ σ1114 109 := Nat.lt_of_lt_of_le hc1083 (hx1.2.1 109)
  have hc1117 : (gN_ σ 112) < gN_ σ1114 112 := Nat.lt_of_lt_of_le hc1084 (hx1.2.1 112)
  have hc1118 : (gN_ σ17 113) < gN_ σ1114 113 := Nat.lt_of_lt_of_le hc1085 (hx1.2.1 113)
  have hc1119 : (gN_ σ28 114) < gN_ σ1114 114 := Nat.lt_of_lt_of_le hc1086 (hx1.2.1 114)
  have hc1120 : (gN_ σ41 115) < gN_ σ1114 115 := Nat.lt_of_lt_of_le hc1087 (hx1.2.1 115)
  have hc1121 : (gN_ σ56 116) < gN_ σ1114 116 := Nat.lt_of_lt_of_le hc1088 (hx1.2.1 116)
  have hc1122 : (gN_ σ73 117) < gN_ σ1114 117 := Nat.lt_of_lt_of_le hc1089 (hx1.2.1 117)
  have hc1123 : (gN_ σ92 118) < gN_ σ1114 118 := Nat.lt_of_lt_of_le hc1090 (hx1.2.1 118)
  have hc1124 : (gN_ σ113 119) < gN_ σ1114 119 := Nat.lt_of_lt_of_le hc1091 (hx1.2.1 119)
  have hc1125 : (gN_ σ136 127) < gN_ σ1114 127 := Nat.lt_of_lt_of_le hc1092 (hx1.2.1 127)
  have hc1126 : (gN_ σ161 128) < gN_ σ1114 128 := Nat.lt_of_lt_of_le hc1093 (hx1.2.1 128)
  have hc1127 : (gN_ σ188 129) < gN_ σ1114 129 := Nat.lt_of_lt_of_le hc1094 (hx1.2.1 129)
  have hc1128 : (gN_ σ217 130) < gN_ σ1114 130 := Nat.lt_of_lt_of_le hc1095 (hx1.2.1 130)
  have hc1129 : (gN_ σ248 131) < gN_ σ1114 131 := Nat.lt_of_lt_of_le hc1096 (hx1.2.1 131)
  have hc1130 : (gN_ σ281 137) < gN_ σ1114 137 := Nat.lt_of_lt_of_le hc1097 (hx1.2.1 137)
  have hc1131 : (gN_ σ316 138) < gN_ σ1114 138 := Nat.lt_of_lt_of_le hc1098 (hx1.2.1 138)
  have hc1132 : (gN_ σ353 145) < gN_ σ1114 145 := Nat.lt_of_lt_of_le hc1099 (hx1.2.1 145)
  have hc1133 : (gN_ σ392 146) < gN_ σ1114 146 := Nat.lt_of_lt_of_le hc1100 (hx1.2.1 146)
  have hc1134 : (gN_ σ433 147) < gN_ σ1114 147 := Nat.lt_of_lt_of_le hc1101 (hx1.2.1 147)
  have hc1135 : (gN_ σ476 148) < gN_ σ1114 148 := Nat.lt_of_lt_of_le hc1102 (hx1.2.1 148)
  have hc1136 : (gN_ σ521 150) < gN_ σ1114 150 := Nat.lt_of_lt_of_le hc1103 (hx1.2.1 150)
  have hc1137 : (gN_ σ568 151) < gN_ σ1114 151 := Nat.lt_of_lt_of_le hc1104 (hx1.2.1 151)
  have hc1138 : (gN_ σ617 152) < gN_ σ1114 152 := Nat.lt_of_lt_of_le hc1105 (hx1.2.1 152)
  have hc1139 : (gN_ σ668 153) < gN_ σ1114 153 := Nat.lt_of_lt_of_le hc1106 (hx1.2.1 153)
  have hc1140 : (gN_ σ721 154) < gN_ σ1114 154 := Nat.lt_of_lt_of_le hc1107 (hx1.2.1 154)
  have hc1141 : (gN_ σ776 155) < gN_ σ1114 155 := Nat.lt_of_lt_of_le hc1108 (hx1.2.1 155)
  have hc1142 : (gN_ σ833 156) < gN_ σ1114 156 := Nat.lt_of_lt_of_le hc1109 (hx1.2.1 156)
  have hc1143 : (gN_ σ892 157) < gN_ σ1114 157 := Nat.lt_of_lt_of_le hc1110 (hx1.2.1 157)
  have hc1144 : (gN_ σ953 158) < gN_ σ1114 158 := Nat.lt_of_lt_of_le hc1111 (hx1.2.1 158)
  have hc1145 : (gN_ σ1016 163) < gN_ σ1114 163 := Nat.lt_of_lt_of_le hc1112 (hx1.2.1 163)
  have hc1146 : gN_ σ1081 164 < gN_ σ1114 164 := by rw [e1115]; exact nA_lt rfl
  rw [show ow_ 164 = 164 from rfl]
  have hl : lv_has ls 2 [(0, .ref (L 109 0))] := by rw [hx1.at hp1113 (by decide)]; exact hl
  refine ww_stk (st1 := [.ref (L 164 (gN_ σ1081 164)), .ref (L 109 0)]) (by rw [hx1.at hp1113 (by decide)]) ?_
  have hx0 := hx0.trans hx1
  obtain ⟨hc1147, hs⟩ := ww_chk hs
  have hpq : pr σ1114 164 (gN_ σ1081 164) := (pr_dy hc1146 rfl rfl)
  rw [hc1147] at hpq
  obtain ⟨σ1148, e1149, hs⟩ := ww_let hs
  refine ww_markF (d := (1, 164, 0)) hx hb hts hown (hnm.trans rfl) hW 109 0 54 0 (pr_dy hc1116 rfl rfl) (tgd_1 hpq) (obv_0 rfl) rfl (by decide) (Nat.le_of_ble_eq_true rfl) in_X10 tyX10_ok nmX10 rfl (Nat.le_of_ble_eq_true rfl) (hts _ q1747) (fun _ h => h) rfl rfl rfl (fun _ => rfl) (fun _ => rfl) (by rw [hc1147]; rfl) dX10_init_246 (fun H locs hW => ?_)
  have hW : wv g L σ1148 s H locs := by rw [e1149]; exact hW
  obtain ⟨hx0, hcs⟩ := lx_s (σ1 := σ1148) hx0 hcs (by rw [e1149]; exact (kp_M (by decide)))
  have hc1150 : 0 < gN_ σ1148 109 := by rw [e1149]; exact hc1116
  have hc1151 : (gN_ σ 112) < gN_ σ1148 112 := by rw [e1149]; exact hc1117
  have hc1152 : (gN_ σ17 113) < gN_ σ1148 113 := by rw [e1149]; exact hc1118
  have hc1153 : (gN_ σ28 114) < gN_ σ1148 114 := by rw [e1149]; exact hc1119
  have hc1154 : (gN_ σ41 115) < gN_ σ1148 115 := by rw [e1149]; exact hc1120
  have hc1155 : (gN_ σ56 116) < gN_ σ1148 116 := by rw [e1149]; exact hc1121
  have hc1156 : (gN_ σ73 117) < gN_ σ1148 117 := by rw [e1149]; exact hc1122
  have hc1157 : (gN_ σ92 118) < gN_ σ1148 118 := by rw [e1149]; exact hc1123
  have hc1158 : (gN_ σ113 119) < gN_ σ1148 119 := by rw [e1149]; exact hc1124
  have hc1159 : (gN_ σ136 127) < gN_ σ1148 127 := by rw [e1149]; exact hc1125
  have hc1160 : (gN_ σ161 128) < gN_ σ1148 128 := by rw [e1149]; exact hc1126
  have hc1161 : (gN_ σ188 129) < gN_ σ1148 129 := by rw [e1149]; exact hc1127
  have hc1162 : (gN_ σ217 130) < gN_ σ1148 130 := by rw [e1149]; exact hc1128
  have hc1163 : (gN_ σ248 131) < gN_ σ1148 131 := by rw [e1149]; exact hc1129
  have hc1164 : (gN_ σ281 137) < gN_ σ1148 137 := by rw [e1149]; exact hc1130
  have hc1165 : (gN_ σ316 138) < gN_ σ1148 138 := by rw [e1149]; exact hc1131
  have hc1166 : (gN_ σ353 145) < gN_ σ1148 145 := by rw [e1149]; exact hc1132
  have hc1167 : (gN_ σ392 146) < gN_ σ1148 146 := by rw [e1149]; exact hc1133
  have hc1168 : (gN_ σ433 147) < gN_ σ1148 147 := by rw [e1149]; exact hc1134
  have hc1169 : (gN_ σ476 148) < gN_ σ1148 148 := by rw [e1149]; exact hc1135
  have hc1170 : (gN_ σ521 150) < gN_ σ1148 150 := by rw [e1149]; exact hc1136
  have hc1171 : (gN_ σ568 151) < gN_ σ1148 151 := by rw [e1149]; exact hc1137
  have hc1172 : (gN_ σ617 152) < gN_ σ1148 152 := by rw [e1149]; exact hc1138
  have hc1173 : (gN_ σ668 153) < gN_ σ1148 153 := by rw [e1149]; exact hc1139
  have hc1174 : (gN_ σ721 154) < gN_ σ1148 154 := by rw [e1149]; exact hc1140
  have hc1175 : (gN_ σ776 155) < gN_ σ1148 155 := by rw [e1149]; exact hc1141
  have hc1176 : (gN_ σ833 156) < gN_ σ1148 156 := by rw [e1149]; exact hc1142
  have hc1177 : (gN_ σ892 157) < gN_ σ1148 157 := by rw [e1149]; exact hc1143
  have hc1178 : (gN_ σ953 158) < gN_ σ1148 158 := by rw [e1149]; exact hc1144
  have hc1179 : (gN_ σ1016 163) < gN_ σ1148 163 := by rw [e1149]; exact hc1145
  have hc1180 : (gN_ σ1081 164) < gN_ σ1148 164 := by rw [e1149]; exact hc1146
  refine lv_aload_n hx hb dX10_init_249 rfl (lv_at hl 0 rfl) ?_
  refine lv_iconst (v := 3) hx hb dX10_init_250 (by decide) ?_
  have hp1181 : pr σ1148 109 0 := (pr_dy hc1150 rfl rfl)
  obtain ⟨σ1182, e1183, hs⟩ := ww_let hs
  obtain ⟨hs, hck⟩ := ww_ck1 hs
  have hrm1 := hcs.room (σ1 := σ1182) (a := 1) (b := 3) (by rw [e1183]; rfl) (by rw [e1183]; rfl) hck
  refine ww_newa (atype := .int) hx hb (hts _ q201) hW 165 0 3 (Or.inl rfl) sole_165 (Or.inr hgm) rfl rfl rfl (by decide) rfl (Nat.le_of_ble_eq_true rfl) hrm1.1 hrm1.2 dX10_init_251 (fun H L hx1 hW => ?_)
  rw [← e1183] at hx1 hW
  have hcs := hcs.more (σ1 := σ1182) (a := 1) (b := 3) (by rw [e1183]; rfl) (by rw [e1183]; rfl)
  have hrm := hrm1
  have hc1184 : 0 < gN_ σ1182 109 := Nat.lt_of_lt_of_le hc1150 (hx1.2.1 109)
  have hc1185 : (gN_ σ 112) < gN_ σ1182 112 := Nat.lt_of_lt_of_le hc1151 (hx1.2.1 112)
  have hc1186 : (gN_ σ17 113) < gN_ σ1182 113 := Nat.lt_of_lt_of_le hc1152 (hx1.2.1 113)
  have hc1187 : (gN_ σ28 114) < gN_ σ1182 114 := Nat.lt_of_lt_of_le hc1153 (hx1.2.1 114)
  have hc1188 : (gN_ σ41 115) < gN_ σ1182 115 := Nat.lt_of_lt_of_le hc1154 (hx1.2.1 115)
  have hc1189 : (gN_ σ56 116) < gN_ σ1182 116 := Nat.lt_of_lt_of_le hc1155 (hx1.2.1 116)
  have hc1190 : (gN_ σ73 117) < gN_ σ1182 117 := Nat.lt_of_lt_of_le hc1156 (hx1.2.1 117)
  have hc1191 : (gN_ σ92 118) < gN_ σ1182 118 := Nat.lt_of_lt_of_le hc1157 (hx1.2.1 118)
  have hc1192 : (gN_ σ113 119) < gN_ σ1182 119 := Nat.lt_of_lt_of_le hc1158 (hx1.2.1 119)
  have hc1193 : (gN_ σ136 127) < gN_ σ1182 127 := Nat.lt_of_lt_of_le hc1159 (hx1.2.1 127)
  have hc1194 : (gN_ σ161 128) < gN_ σ1182 128 := Nat.lt_of_lt_of_le hc1160 (hx1.2.1 128)
  have hc1195 : (gN_ σ188 129) < gN_ σ1182 129 := Nat.lt_of_lt_of_le hc1161 (hx1.2.1 129)
  have hc1196 : (gN_ σ217 130) < gN_ σ1182 130 := Nat.lt_of_lt_of_le hc1162 (hx1.2.1 130)
  have hc1197 : (gN_ σ248 131) < gN_ σ1182 131 := Nat.lt_of_lt_of_le hc1163 (hx1.2.1 131)
  have hc1198 : (gN_ σ281 137) < gN_ σ1182 137 := Nat.lt_of_lt_of_le hc1164 (hx1.2.1 137)
  have hc1199 : (gN_ σ316 138) < gN_ σ1182 138 := Nat.lt_of_lt_of_le hc1165 (hx1.2.1 138)
  have hc1200 : (gN_ σ353 145) < gN_ σ1182 145 := Nat.lt_of_lt_of_le hc1166 (hx1.2.1 145)
  have hc1201 : (gN_ σ392 146) < gN_ σ1182 146 := Nat.lt_of_lt_of_le hc1167 (hx1.2.1 146)
  have hc1202 : (gN_ σ433 147) < gN_ σ1182 147 := Nat.lt_of_lt_of_le hc1168 (hx1.2.1 147)
  have hc1203 : (gN_ σ476 148) < gN_ σ1182 148 := Nat.lt_of_lt_of_le hc1169 (hx1.2.1 148)
  have hc1204 : (gN_ σ521 150) < gN_ σ1182 150 := Nat.lt_of_lt_of_le hc1170 (hx1.2.1 150)
  have hc1205 : (gN_ σ568 151) < gN_ σ1182 151 := Nat.lt_of_lt_of_le hc1171 (hx1.2.1 151)
  have hc1206 : (gN_ σ617 152) < gN_ σ1182 152 := Nat.lt_of_lt_of_le hc1172 (hx1.2.1 152)
  have hc1207 : (gN_ σ668 153) < gN_ σ1182 153 := Nat.lt_of_lt_of_le hc1173 (hx1.2.1 153)
  have hc1208 : (gN_ σ721 154) < gN_ σ1182 154 := Nat.lt_of_lt_of_le hc1174 (hx1.2.1 154)
  have hc1209 : (gN_ σ776 155) < gN_ σ1182 155 := Nat.lt_of_lt_of_le hc1175 (hx1.2.1 155)
  have hc1210 : (gN_ σ833 156) < gN_ σ1182 156 := Nat.lt_of_lt_of_le hc1176 (hx1.2.1 156)
  have hc1211 : (gN_ σ892 157) < gN_ σ1182 157 := Nat.lt_of_lt_of_le hc1177 (hx1.2.1 157)
  have hc1212 : (gN_ σ953 158) < gN_ σ1182 158 := Nat.lt_of_lt_of_le hc1178 (hx1.2.1 158)
  have hc1213 : (gN_ σ1016 163) < gN_ σ1182 163 := Nat.lt_of_lt_of_le hc1179 (hx1.2.1 163)
  have hc1214 : (gN_ σ1081 164) < gN_ σ1182 164 := Nat.lt_of_lt_of_le hc1180 (hx1.2.1 164)
  have hc1215 : gN_ σ1148 165 < gN_ σ1182 165 := by rw [e1183]; exact nA_lt rfl
  rw [show ow_ 165 = 165 from rfl]
  have hl : lv_has ls 2 [(0, .ref (L 109 0))] := by rw [hx1.at hp1181 (by decide)]; exact hl
  refine ww_stk (st1 := [.ref (L 165 (gN_ σ1148 165)), .ref (L 109 0)]) (by rw [hx1.at hp1181 (by decide)]) ?_
  have hx0 := hx0.trans hx1
  obtain ⟨hc1216, hs⟩ := ww_chk hs
  have hpq : pr σ1182 165 (gN_ σ1148 165) := (pr_dy hc1215 rfl rfl)
  rw [hc1216] at hpq
  obtain ⟨σ1217, e1218, hs⟩ := ww_let hs
  refine ww_markF (d := (1, 165, 0)) hx hb hts hown (hnm.trans rfl) hW 109 0 55 0 (pr_dy hc1184 rfl rfl) (tgd_1 hpq) (obv_0 rfl) rfl (by decide) (Nat.le_of_ble_eq_true rfl) in_X10 tyX10_ok nmX10 rfl (Nat.le_of_ble_eq_true rfl) (hts _ q1748) (fun _ h => h) rfl rfl rfl (fun _ => rfl) (fun _ => rfl) (by rw [hc1216]; rfl) dX10_init_253 (fun H locs hW => ?_)
  have hW : wv g L σ1217 s H locs := by rw [e1218]; exact hW
  obtain ⟨hx0, hcs⟩ := lx_s (σ1 := σ1217) hx0 hcs (by rw [e1218]; exact (kp_M (by decide)))
  have hc1219 : 0 < gN_ σ1217 109 := by rw [e1218]; exact hc1184
  have hc1220 : (gN_ σ 112) < gN_ σ1217 112 := by rw [e1218]; exact hc1185
  have hc1221 : (gN_ σ17 113) < gN_ σ1217 113 := by rw [e1218]; exact hc1186
  have hc1222 : (gN_ σ28 114) < gN_ σ1217 114 := by rw [e1218]; exact hc1187
  have hc1223 : (gN_ σ41 115) < gN_ σ1217 115 := by rw [e1218]; exact hc1188
  have hc1224 : (gN_ σ56 116) < gN_ σ1217 116 := by rw [e1218]; exact hc1189
  have hc1225 : (gN_ σ73 117) < gN_ σ1217 117 := by rw [e1218]; exact hc1190
  have hc1226 : (gN_ σ92 118) < gN_ σ1217 118 := by rw [e1218]; exact hc1191
  have hc1227 : (gN_ σ113 119) < gN_ σ1217 119 := by rw [e1218]; exact hc1192
  have hc1228 : (gN_ σ136 127) < gN_ σ1217 127 := by rw [e1218]; exact hc1193
  have hc1229 : (gN_ σ161 128) < gN_ σ1217 128 := by rw [e1218]; exact hc1194
  have hc1230 : (gN_ σ188 129) < gN_ σ1217 129 := by rw [e1218]; exact hc1195
  have hc1231 : (gN_ σ217 130) < gN_ σ1217 130 := by rw [e1218]; exact hc1196
  have hc1232 : (gN_ σ248 131) < gN_ σ1217 131 := by rw [e1218]; exact hc1197
  have hc1233 : (gN_ σ281 137) < gN_ σ1217 137 := by rw [e1218]; exact hc1198
  have hc1234 : (gN_ σ316 138) < gN_ σ1217 138 := by rw [e1218]; exact hc1199
  have hc1235 : (gN_ σ353 145) < gN_ σ1217 145 := by rw [e1218]; exact hc1200
  have hc1236 : (gN_ σ392 146) < gN_ σ1217 146 := by rw [e1218]; exact hc1201
  have hc1237 : (gN_ σ433 147) < gN_ σ1217 147 := by rw [e1218]; exact hc1202
  have hc1238 : (gN_ σ476 148) < gN_ σ1217 148 := by rw [e1218]; exact hc1203
  have hc1239 : (gN_ σ521 150) < gN_ σ1217 150 := by rw [e1218]; exact hc1204
  have hc1240 : (gN_ σ568 151) < gN_ σ1217 151 := by rw [e1218]; exact hc1205
  have hc1241 : (gN_ σ617 152) < gN_ σ1217 152 := by rw [e1218]; exact hc1206
  have hc1242 : (gN_ σ668 153) < gN_ σ1217 153 := by rw [e1218]; exact hc1207
  have hc1243 : (gN_ σ721 154) < gN_ σ1217 154 := by rw [e1218]; exact hc1208
  have hc1244 : (gN_ σ776 155) < gN_ σ1217 155 := by rw [e1218]; exact hc1209
  have hc1245 : (gN_ σ833 156) < gN_ σ1217 156 := by rw [e1218]; exact hc1210
  have hc1246 : (gN_ σ892 157) < gN_ σ1217 157 := by rw [e1218]; exact hc1211
  have hc1247 : (gN_ σ953 158) < gN_ σ1217 158 := by rw [e1218]; exact hc1212
  have hc1248 : (gN_ σ1016 163) < gN_ σ1217 163 := by rw [e1218]; exact hc1213
  have hc1249 : (gN_ σ1081 164) < gN_ σ1217 164 := by rw [e1218]; exact hc1214
  have hc1250 : (gN_ σ1148 165) < gN_ σ1217 165 := by rw [e1218]; exact hc1215
  refine lv_aload_n hx hb dX10_init_256 rfl (lv_at hl 0 rfl) ?_
  refine lv_bipush (v := 10) hx hb dX10_init_257 (by decide) ?_
  have hp1251 : pr σ1217 109 0 := (pr_dy hc1219 rfl rfl)
  obtain ⟨σ1252, e1253, hs⟩ := ww_let hs
  obtain ⟨hs, hck⟩ := ww_ck1 hs
  have hrm1 := hcs.room (σ1 := σ1252) (a := 1) (b := 10) (by rw [e1253]; rfl) (by rw [e1253]; rfl) hck
  refine ww_newa (atype := .int) hx hb (hts _ q201) hW 166 0 10 (Or.inl rfl) sole_166 (Or.inr hgm) rfl rfl rfl (by decide) rfl (Nat.le_of_ble_eq_true rfl) hrm1.1 hrm1.2 dX10_init_259 (fun H L hx1 hW => ?_)
  rw [← e1253] at hx1 hW
  have hcs := hcs.more (σ1 := σ1252) (a := 1) (b := 10) (by rw [e1253]; rfl) (by rw [e1253]; rfl)
  have hrm := hrm1
  have hc1254 : 0 < gN_ σ1252 109 := Nat.lt_of_lt_of_le hc1219 (hx1.2.1 109)
  have hc1255 : (gN_ σ 112) < gN_ σ1252 112 := Nat.lt_of_lt_of_le hc1220 (hx1.2.1 112)
  have hc1256 : (gN_ σ17 113) < gN_ σ1252 113 := Nat.lt_of_lt_of_le hc1221 (hx1.2.1 113)
  have hc1257 : (gN_ σ28 114) < gN_ σ1252 114 := Nat.lt_of_lt_of_le hc1222 (hx1.2.1 114)
  have hc1258 : (gN_ σ41 115) < gN_ σ1252 115 := Nat.lt_of_lt_of_le hc1223 (hx1.2.1 115)
  have hc1259 : (gN_ σ56 116) < gN_ σ1252 116 := Nat.lt_of_lt_of_le hc1224 (hx1.2.1 116)
  have hc1260 : (gN_ σ73 117) < gN_ σ1252 117 := Nat.lt_of_lt_of_le hc1225 (hx1.2.1 117)
  have hc1261 : (gN_ σ92 118) < gN_ σ1252 118 := Nat.lt_of_lt_of_le hc1226 (hx1.2.1 118)
  have hc1262 : (gN_ σ113 119) < gN_ σ1252 119 := Nat.lt_of_lt_of_le hc1227 (hx1.2.1 119)
  have hc1263 : (gN_ σ136 127) < gN_ σ1252 127 := Nat.lt_of_lt_of_le hc1228 (hx1.2.1 127)
  have hc1264 : (gN_ σ161 128) < gN_ σ1252 128 := Nat.lt_of_lt_of_le hc1229 (hx1.2.1 128)
  have hc1265 : (gN_ σ188 129) < gN_ σ1252 129 := Nat.lt_of_lt_of_le hc1230 (hx1.2.1 129)
  have hc1266 : (gN_ σ217 130) < gN_ σ1252 130 := Nat.lt_of_lt_of_le hc1231 (hx1.2.1 130)
  have hc1267 : (gN_ σ248 131) < gN_ σ1252 131 := Nat.lt_of_lt_of_le hc1232 (hx1.2.1 131)
  have hc1268 : (gN_ σ281 137) < gN_ σ1252 137 := Nat.lt_of_lt_of_le hc1233 (hx1.2.1 137)
  have hc1269 : (gN_ σ316 138) < gN_ σ1252 138 := Nat.lt_of_lt_of_le hc1234 (hx1.2.1 138)
  have hc1270 : (gN_ σ353 145) < gN_ σ1252 145 := Nat.lt_of_lt_of_le hc1235 (hx1.2.1 145)
  have hc1271 : (gN_ σ392 146) < gN_ σ1252 146 := Nat.lt_of_lt_of_le hc1236 (hx1.2.1 146)
  have hc1272 : (gN_ σ433 147) < gN_ σ1252 147 := Nat.lt_of_lt_of_le hc1237 (hx1.2.1 147)
  have hc1273 : (gN_ σ476 148) < gN_ σ1252 148 := Nat.lt_of_lt_of_le hc1238 (hx1.2.1 148)
  have hc1274 : (gN_ σ521 150) < gN_ σ1252 150 := Nat.lt_of_lt_of_le hc1239 (hx1.2.1 150)
  have hc1275 : (gN_ σ568 151) < gN_ σ1252 151 := Nat.lt_of_lt_of_le hc1240 (hx1.2.1 151)
  have hc1276 : (gN_ σ617 152) < gN_ σ1252 152 := Nat.lt_of_lt_of_le hc1241 (hx1.2.1 152)
  have hc1277 : (gN_ σ668 153) < gN_ σ1252 153 := Nat.lt_of_lt_of_le hc1242 (hx1.2.1 153)
  have hc1278 : (gN_ σ721 154) < gN_ σ1252 154 := Nat.lt_of_lt_of_le hc1243 (hx1.2.1 154)
  have hc1279 : (gN_ σ776 155) < gN_ σ1252 155 := Nat.lt_of_lt_of_le hc1244 (hx1.2.1 155)
  have hc1280 : (gN_ σ833 156) < gN_ σ1252 156 := Nat.lt_of_lt_of_le hc1245 (hx1.2.1 156)
  have hc1281 : (gN_ σ892 157) < gN_ σ1252 157 := Nat.lt_of_lt_of_le hc1246 (hx1.2.1 157)
  have hc1282 : (gN_ σ953 158) < gN_ σ1252 158 := Nat.lt_of_lt_of_le hc1247 (hx1.2.1 158)
  have hc1283 : (gN_ σ1016 163) < gN_ σ1252 163 := Nat.lt_of_lt_of_le hc1248 (hx1.2.1 163)
  have hc1284 : (gN_ σ1081 164) < gN_ σ1252 164 := Nat.lt_of_lt_of_le hc1249 (hx1.2.1 164)
  have hc1285 : (gN_ σ1148 165) < gN_ σ1252 165 := Nat.lt_of_lt_of_le hc1250 (hx1.2.1 165)
  have hc1286 : gN_ σ1217 166 < gN_ σ1252 166 := by rw [e1253]; exact nA_lt rfl
  rw [show ow_ 166 = 166 from rfl]
  have hl : lv_has ls 2 [(0, .ref (L 109 0))] := by rw [hx1.at hp1251 (by decide)]; exact hl
  refine ww_stk (st1 := [.ref (L 166 (gN_ σ1217 166)), .ref (L 109 0)]) (by rw [hx1.at hp1251 (by decide)]) ?_
  have hx0 := hx0.trans hx1
  obtain ⟨hc1287, hs⟩ := ww_chk hs
  have hpq : pr σ1252 166 (gN_ σ1217 166) := (pr_dy hc1286 rfl rfl)
  rw [hc1287] at hpq
  obtain ⟨σ1288, e1289, hs⟩ := ww_let hs
  refine ww_markF (d := (1, 166, 0)) hx hb hts hown (hnm.trans rfl) hW 109 0 56 0 (pr_dy hc1254 rfl rfl) (tgd_1 hpq) (obv_0 rfl) rfl (by decide) (Nat.le_of_ble_eq_true rfl) in_X10 tyX10_ok nmX10 rfl (Nat.le_of_ble_eq_true rfl) (hts _ q1749) (fun _ h => h) rfl rfl rfl (fun _ => rfl) (fun _ => rfl) (by rw [hc1287]; rfl) dX10_init_261 (fun H locs hW => ?_)
  have hW : wv g L σ1288 s H locs := by rw [e1289]; exact hW
  obtain ⟨hx0, hcs⟩ := lx_s (σ1 := σ1288) hx0 hcs (by rw [e1289]; exact (kp_M (by decide)))
  have hc1290 : 0 < gN_ σ1288 109 := by rw [e1289]; exact hc1254
  have hc1291 : (gN_ σ 112) < gN_ σ1288 112 := by rw [e1289]; exact hc1255
  have hc1292 : (gN_ σ17 113) < gN_ σ1288 113 := by rw [e1289]; exact hc1256
  have hc1293 : (gN_ σ28 114) < gN_ σ1288 114 := by rw [e1289]; exact hc1257
  have hc1294 : (gN_ σ41 115) < gN_ σ1288 115 := by rw [e1289]; exact hc1258
  have hc1295 : (gN_ σ56 116) < gN_ σ1288 116 := by rw [e1289]; exact hc1259
  have hc1296 : (gN_ σ73 117) < gN_ σ1288 117 := by rw [e1289]; exact hc1260
  have hc1297 : (gN_ σ92 118) < gN_ σ1288 118 := by rw [e1289]; exact hc1261
  have hc1298 : (gN_ σ113 119) < gN_ σ1288 119 := by rw [e1289]; exact hc1262
  have hc1299 : (gN_ σ136 127) < gN_ σ1288 127 := by rw [e1289]; exact hc1263
  have hc1300 : (gN_ σ161 128) < gN_ σ1288 128 := by rw [e1289]; exact hc1264
  have hc1301 : (gN_ σ188 129) < gN_ σ1288 129 := by rw [e1289]; exact hc1265
  have hc1302 : (gN_ σ217 130) < gN_ σ1288 130 := by rw [e1289]; exact hc1266
  have hc1303 : (gN_ σ248 131) < gN_ σ1288 131 := by rw [e1289]; exact hc1267
  have hc1304 : (gN_ σ281 137) < gN_ σ1288 137 := by rw [e1289]; exact hc1268
  have hc1305 : (gN_ σ316 138) < gN_ σ1288 138 := by rw [e1289]; exact hc1269
  have hc1306 : (gN_ σ353 145) < gN_ σ1288 145 := by rw [e1289]; exact hc1270
  have hc1307 : (gN_ σ392 146) < gN_ σ1288 146 := by rw [e1289]; exact hc1271
  have hc1308 : (gN_ σ433 147) < gN_ σ1288 147 := by rw [e1289]; exact hc1272
  have hc1309 : (gN_ σ476 148) < gN_ σ1288 148 := by rw [e1289]; exact hc1273
  have hc1310 : (gN_ σ521 150) < gN_ σ1288 150 := by rw [e1289]; exact hc1274
  have hc1311 : (gN_ σ568 151) < gN_ σ1288 151 := by rw [e1289]; exact hc1275
  have hc1312 : (gN_ σ617 152) < gN_ σ1288 152 := by rw [e1289]; exact hc1276
  have hc1313 : (gN_ σ668 153) < gN_ σ1288 153 := by rw [e1289]; exact hc1277
  have hc1314 : (gN_ σ721 154) < gN_ σ1288 154 := by rw [e1289]; exact hc1278
  have hc1315 : (gN_ σ776 155) < gN_ σ1288 155 := by rw [e1289]; exact hc1279
  have hc1316 : (gN_ σ833 156) < gN_ σ1288 156 := by rw [e1289]; exact hc1280
  have hc1317 : (gN_ σ892 157) < gN_ σ1288 157 := by rw [e1289]; exact hc1281
  have hc1318 : (gN_ σ953 158) < gN_ σ1288 158 := by rw [e1289]; exact hc1282
  have hc1319 : (gN_ σ1016 163) < gN_ σ1288 163 := by rw [e1289]; exact hc1283
  have hc1320 : (gN_ σ1081 164) < gN_ σ1288 164 := by rw [e1289]; exact hc1284
  have hc1321 : (gN_ σ1148 165) < gN_ σ1288 165 := by rw [e1289]; exact hc1285
  have hc1322 : (gN_ σ1217 166) < gN_ σ1288 166 := by rw [e1289]; exact hc1286
  refine lv_aload_n hx hb dX10_init_264 rfl (lv_at hl 0 rfl) ?_
  refine lv_bipush (v := 12) hx hb dX10_init_265 (by decide) ?_
  have hp1323 : pr σ1288 109 0 := (pr_dy hc1290 rfl rfl)
  obtain ⟨σ1324, e1325, hs⟩ := ww_let hs
  obtain ⟨hs, hck⟩ := ww_ck1 hs
  have hrm1 := hcs.room (σ1 := σ1324) (a := 1) (b := 12) (by rw [e1325]; rfl) (by rw [e1325]; rfl) hck
  refine ww_newa (atype := .int) hx hb (hts _ q201) hW 171 0 12 (Or.inl rfl) sole_171 (Or.inr hgm) rfl rfl rfl (by decide) rfl (Nat.le_of_ble_eq_true rfl) hrm1.1 hrm1.2 dX10_init_267 (fun H L hx1 hW => ?_)
  rw [← e1325] at hx1 hW
  have hcs := hcs.more (σ1 := σ1324) (a := 1) (b := 12) (by rw [e1325]; rfl) (by rw [e1325]; rfl)
  have hrm := hrm1
  have hc1326 : 0 < gN_ σ1324 109 := Nat.lt_of_lt_of_le hc1290 (hx1.2.1 109)
  have hc1327 : (gN_ σ 112) < gN_ σ1324 112 := Nat.lt_of_lt_of_le hc1291 (hx1.2.1 112)
  have hc1328 : (gN_ σ17 113) < gN_ σ1324 113 := Nat.lt_of_lt_of_le hc1292 (hx1.2.1 113)
  have hc1329 : (gN_ σ28 114) < gN_ σ1324 114 := Nat.lt_of_lt_of_le hc1293 (hx1.2.1 114)
  have hc1330 : (gN_ σ41 115) < gN_ σ1324 115 := Nat.lt_of_lt_of_le hc1294 (hx1.2.1 115)
  have hc1331 : (gN_ σ56 116) < gN_ σ1324 116 := Nat.lt_of_lt_of_le hc1295 (hx1.2.1 116)
  have hc1332 : (gN_ σ73 117) < gN_ σ1324 117 := Nat.lt_of_lt_of_le hc1296 (hx1.2.1 117)
  have hc1333 : (gN_ σ92 118) < gN_ σ1324 118 := Nat.lt_of_lt_of_le hc1297 (hx1.2.1 118)
  have hc1334 : (gN_ σ113 119) < gN_ σ1324 119 := Nat.lt_of_lt_of_le hc1298 (hx1.2.1 119)
  have hc1335 : (gN_ σ136 127) < gN_ σ1324 127 := Nat.lt_of_lt_of_le hc1299 (hx1.2.1 127)
  have hc1336 : (gN_ σ161 128) < gN_ σ1324 128 := Nat.lt_of_lt_of_le hc1300 (hx1.2.1 128)
  have hc1337 : (gN_ σ188 129) < gN_ σ1324 129 := Nat.lt_of_lt_of_le hc1301 (hx1.2.1 129)
  have hc1338 : (gN_ σ217 130) < gN_ σ1324 130 := Nat.lt_of_lt_of_le hc1302 (hx1.2.1 130)
  have hc1339 : (gN_ σ248 131) < gN_ σ1324 131 := Nat.lt_of_lt_of_le hc1303 (hx1.2.1 131)
  have hc1340 : (gN_ σ281 137) < gN_ σ1324 137 := Nat.lt_of_lt_of_le hc1304 (hx1.2.1 137)
  have hc1341 : (gN_ σ316 138) < gN_ σ1324 138 := Nat.lt_of_lt_of_le hc1305 (hx1.2.1 138)
  have hc1342 : (gN_ σ353 145) < gN_ σ1324 145 := Nat.lt_of_lt_of_le hc1306 (hx1.2.1 145)
  have hc1343 : (gN_ σ392 146) < gN_ σ1324 146 := Nat.lt_of_lt_of_le hc1307 (hx1.2.1 146)
  have hc1344 : (gN_ σ433 147) < gN_ σ1324 147 := Nat.lt_of_lt_of_le hc1308 (hx1.2.1 147)
  have hc1345 : (gN_ σ476 148) < gN_ σ1324 148 := Nat.lt_of_lt_of_le hc1309 (hx1.2.1 148)
  have hc1346 : (gN_ σ521 150) < gN_ σ1324 150 := Nat.lt_of_lt_of_le hc1310 (hx1.2.1 150)
  have hc1347 : (gN_ σ568 151) < gN_ σ1324 151 := Nat.lt_of_lt_of_le hc1311 (hx1.2.1 151)
  have hc1348 : (gN_ σ617 152) < gN_ σ1324 152 := Nat.lt_of_lt_of_le hc1312 (hx1.2.1 152)
  have hc1349 : (gN_ σ668 153) < gN_ σ1324 153 := Nat.lt_of_lt_of_le hc1313 (hx1.2.1 153)
  have hc1350 : (gN_ σ721 154) < gN_ σ1324 154 := Nat.lt_of_lt_of_le hc1314 (hx1.2.1 154)
  have hc1351 : (gN_ σ776 155) < gN_ σ1324 155 := Nat.lt_of_lt_of_le hc1315 (hx1.2.1 155)
  have hc1352 : (gN_ σ833 156) < gN_ σ1324 156 := Nat.lt_of_lt_of_le hc1316 (hx1.2.1 156)
  have hc1353 : (gN_ σ892 157) < gN_ σ1324 157 := Nat.lt_of_lt_of_le hc1317 (hx1.2.1 157)
  have hc1354 : (gN_ σ953 158) < gN_ σ1324 158 := Nat.lt_of_lt_of_le hc1318 (hx1.2.1 158)
  have hc1355 : (gN_ σ1016 163) < gN_ σ1324 163 := Nat.lt_of_lt_of_le hc1319 (hx1.2.1 163)
  have hc1356 : (gN_ σ1081 164) < gN_ σ1324 164 := Nat.lt_of_lt_of_le hc1320 (hx1.2.1 164)
  have hc1357 : (gN_ σ1148 165) < gN_ σ1324 165 := Nat.lt_of_lt_of_le hc1321 (hx1.2.1 165)
  have hc1358 : (gN_ σ1217 166) < gN_ σ1324 166 := Nat.lt_of_lt_of_le hc1322 (hx1.2.1 166)
  have hc1359 : gN_ σ1288 171 < gN_ σ1324 171 := by rw [e1325]; exact nA_lt rfl
  rw [show ow_ 171 = 171 from rfl]
  have hl : lv_has ls 2 [(0, .ref (L 109 0))] := by rw [hx1.at hp1323 (by decide)]; exact hl
  refine ww_stk (st1 := [.ref (L 171 (gN_ σ1288 171)), .ref (L 109 0)]) (by rw [hx1.at hp1323 (by decide)]) ?_
  have hx0 := hx0.trans hx1
  obtain ⟨hc1360, hs⟩ := ww_chk hs
  have hpq : pr σ1324 171 (gN_ σ1288 171) := (pr_dy hc1359 rfl rfl)
  rw [hc1360] at hpq
  obtain ⟨σ1361, e1362, hs⟩ := ww_let hs
  refine ww_markF (d := (1, 171, 0)) hx hb hts hown (hnm.trans rfl) hW 109 0 61 0 (pr_dy hc1326 rfl rfl) (tgd_1 hpq) (obv_0 rfl) rfl (by decide) (Nat.le_of_ble_eq_true rfl) in_X10 tyX10_ok nmX10 rfl (Nat.le_of_ble_eq_true rfl) (hts _ q1754) (fun _ h => h) rfl rfl rfl (fun _ => rfl) (fun _ => rfl) (by rw [hc1360]; rfl) dX10_init_269 (fun H locs hW => ?_)
  have hW : wv g L σ1361 s H locs := by rw [e1362]; exact hW
  obtain ⟨hx0, hcs⟩ := lx_s (σ1 := σ1361) hx0 hcs (by rw [e1362]; exact (kp_M (by decide)))
  have hc1363 : 0 < gN_ σ1361 109 := by rw [e1362]; exact hc1326
  have hc1364 : (gN_ σ 112) < gN_ σ1361 112 := by rw [e1362]; exact hc1327
  have hc1365 : (gN_ σ17 113) < gN_ σ1361 113 := by rw [e1362]; exact hc1328
  have hc1366 : (gN_ σ28 114) < gN_ σ1361 114 := by rw [e1362]; exact hc1329
  have hc1367 : (gN_ σ41 115) < gN_ σ1361 115 := by rw [e1362]; exact hc1330
  have hc1368 : (gN_ σ56 116) < gN_ σ1361 116 := by rw [e1362]; exact hc1331
  have hc1369 : (gN_ σ73 117) < gN_ σ1361 117 := by rw [e1362]; exact hc1332
  have hc1370 : (gN_ σ92 118) < gN_ σ1361 118 := by rw [e1362]; exact hc1333
  have hc1371 : (gN_ σ113 119) < gN_ σ1361 119 := by rw [e1362]; exact hc1334
  have hc1372 : (gN_ σ136 127) < gN_ σ1361 127 := by rw [e1362]; exact hc1335
  have hc1373 : (gN_ σ161 128) < gN_ σ1361 128 := by rw [e1362]; exact hc1336
  have hc1374 : (gN_ σ188 129) < gN_ σ1361 129 := by rw [e1362]; exact hc1337
  have hc1375 : (gN_ σ217 130) < gN_ σ1361 130 := by rw [e1362]; exact hc1338
  have hc1376 : (gN_ σ248 131) < gN_ σ1361 131 := by rw [e1362]; exact hc1339
  have hc1377 : (gN_ σ281 137) < gN_ σ1361 137 := by rw [e1362]; exact hc1340
  have hc1378 : (gN_ σ316 138) < gN_ σ1361 138 := by rw [e1362]; exact hc1341
  have hc1379 : (gN_ σ353 145) < gN_ σ1361 145 := by rw [e1362]; exact hc1342
  have hc1380 : (gN_ σ392 146) < gN_ σ1361 146 := by rw [e1362]; exact hc1343
  have hc1381 : (gN_ σ433 147) < gN_ σ1361 147 := by rw [e1362]; exact hc1344
  have hc1382 : (gN_ σ476 148) < gN_ σ1361 148 := by rw [e1362]; exact hc1345
  have hc1383 : (gN_ σ521 150) < gN_ σ1361 150 := by rw [e1362]; exact hc1346
  have hc1384 : (gN_ σ568 151) < gN_ σ1361 151 := by rw [e1362]; exact hc1347
  have hc1385 : (gN_ σ617 152) < gN_ σ1361 152 := by rw [e1362]; exact hc1348
  have hc1386 : (gN_ σ668 153) < gN_ σ1361 153 := by rw [e1362]; exact hc1349
  have hc1387 : (gN_ σ721 154) < gN_ σ1361 154 := by rw [e1362]; exact hc1350
  have hc1388 : (gN_ σ776 155) < gN_ σ1361 155 := by rw [e1362]; exact hc1351
  have hc1389 : (gN_ σ833 156) < gN_ σ1361 156 := by rw [e1362]; exact hc1352
  have hc1390 : (gN_ σ892 157) < gN_ σ1361 157 := by rw [e1362]; exact hc1353
  have hc1391 : (gN_ σ953 158) < gN_ σ1361 158 := by rw [e1362]; exact hc1354
  have hc1392 : (gN_ σ1016 163) < gN_ σ1361 163 := by rw [e1362]; exact hc1355
  have hc1393 : (gN_ σ1081 164) < gN_ σ1361 164 := by rw [e1362]; exact hc1356
  have hc1394 : (gN_ σ1148 165) < gN_ σ1361 165 := by rw [e1362]; exact hc1357
  have hc1395 : (gN_ σ1217 166) < gN_ σ1361 166 := by rw [e1362]; exact hc1358
  have hc1396 : (gN_ σ1288 171) < gN_ σ1361 171 := by rw [e1362]; exact hc1359
  refine lv_aload_n hx hb dX10_init_272 rfl (lv_at hl 0 rfl) ?_
  refine lv_iconst (v := 2) hx hb dX10_init_273 (by decide) ?_
  have hp1397 : pr σ1361 109 0 := (pr_dy hc1363 rfl rfl)
  obtain ⟨σ1398, e1399, hs⟩ := ww_let hs
  obtain ⟨hs, hck⟩ := ww_ck1 hs
  have hrm1 := hcs.room (σ1 := σ1398) (a := 1) (b := 2) (by rw [e1399]; rfl) (by rw [e1399]; rfl) hck
  refine ww_newa (atype := .int) hx hb (hts _ q201) hW 175 0 2 (Or.inl rfl) sole_175 (Or.inr hgm) rfl rfl rfl (by decide) rfl (Nat.le_of_ble_eq_true rfl) hrm1.1 hrm1.2 dX10_init_274 (fun H L hx1 hW => ?_)
  rw [← e1399] at hx1 hW
  have hcs := hcs.more (σ1 := σ1398) (a := 1) (b := 2) (by rw [e1399]; rfl) (by rw [e1399]; rfl)
  have hrm := hrm1
  have hc1400 : 0 < gN_ σ1398 109 := Nat.lt_of_lt_of_le hc1363 (hx1.2.1 109)
  have hc1401 : (gN_ σ 112) < gN_ σ1398 112 := Nat.lt_of_lt_of_le hc1364 (hx1.2.1 112)
  have hc1402 : (gN_ σ17 113) < gN_ σ1398 113 := Nat.lt_of_lt_of_le hc1365 (hx1.2.1 113)
  have hc1403 : (gN_ σ28 114) < gN_ σ1398 114 := Nat.lt_of_lt_of_le hc1366 (hx1.2.1 114)
  have hc1404 : (gN_ σ41 115) < gN_ σ1398 115 := Nat.lt_of_lt_of_le hc1367 (hx1.2.1 115)
  have hc1405 : (gN_ σ56 116) < gN_ σ1398 116 := Nat.lt_of_lt_of_le hc1368 (hx1.2.1 116)
  have hc1406 : (gN_ σ73 117) < gN_ σ1398 117 := Nat.lt_of_lt_of_le hc1369 (hx1.2.1 117)
  have hc1407 : (gN_ σ92 118) < gN_ σ1398 118 := Nat.lt_of_lt_of_le hc1370 (hx1.2.1 118)
  have hc1408 : (gN_ σ113 119) < gN_ σ1398 119 := Nat.lt_of_lt_of_le hc1371 (hx1.2.1 119)
  have hc1409 : (gN_ σ136 127) < gN_ σ1398 127 := Nat.lt_of_lt_of_le hc1372 (hx1.2.1 127)
  have hc1410 : (gN_ σ161 128) < gN_ σ1398 128 := Nat.lt_of_lt_of_le hc1373 (hx1.2.1 128)
  have hc1411 : (gN_ σ188 129) < gN_ σ1398 129 := Nat.lt_of_lt_of_le hc1374 (hx1.2.1 129)
  have hc1412 : (gN_ σ217 130) < gN_ σ1398 130 := Nat.lt_of_lt_of_le hc1375 (hx1.2.1 130)
  have hc1413 : (gN_ σ248 131) < gN_ σ1398 131 := Nat.lt_of_lt_of_le hc1376 (hx1.2.1 131)
  have hc1414 : (gN_ σ281 137) < gN_ σ1398 137 := Nat.lt_of_lt_of_le hc1377 (hx1.2.1 137)
  have hc1415 : (gN_ σ316 138) < gN_ σ1398 138 := Nat.lt_of_lt_of_le hc1378 (hx1.2.1 138)
  have hc1416 : (gN_ σ353 145) < gN_ σ1398 145 := Nat.lt_of_lt_of_le hc1379 (hx1.2.1 145)
  have hc1417 : (gN_ σ392 146) < gN_ σ1398 146 := Nat.lt_of_lt_of_le hc1380 (hx1.2.1 146)
  have hc1418 : (gN_ σ433 147) < gN_ σ1398 147 := Nat.lt_of_lt_of_le hc1381 (hx1.2.1 147)
  have hc1419 : (gN_ σ476 148) < gN_ σ1398 148 := Nat.lt_of_lt_of_le hc1382 (hx1.2.1 148)
  have hc1420 : (gN_ σ521 150) < gN_ σ1398 150 := Nat.lt_of_lt_of_le hc1383 (hx1.2.1 150)
  have hc1421 : (gN_ σ568 151) < gN_ σ1398 151 := Nat.lt_of_lt_of_le hc1384 (hx1.2.1 151)
  have hc1422 : (gN_ σ617 152) < gN_ σ1398 152 := Nat.lt_of_lt_of_le hc1385 (hx1.2.1 152)
  have hc1423 : (gN_ σ668 153) < gN_ σ1398 153 := Nat.lt_of_lt_of_le hc1386 (hx1.2.1 153)
  have hc1424 : (gN_ σ721 154) < gN_ σ1398 154 := Nat.lt_of_lt_of_le hc1387 (hx1.2.1 154)
  have hc1425 : (gN_ σ776 155) < gN_ σ1398 155 := Nat.lt_of_lt_of_le hc1388 (hx1.2.1 155)
  have hc1426 : (gN_ σ833 156) < gN_ σ1398 156 := Nat.lt_of_lt_of_le hc1389 (hx1.2.1 156)
  have hc1427 : (gN_ σ892 157) < gN_ σ1398 157 := Nat.lt_of_lt_of_le hc1390 (hx1.2.1 157)
  have hc1428 : (gN_ σ953 158) < gN_ σ1398 158 := Nat.lt_of_lt_of_le hc1391 (hx1.2.1 158)
  have hc1429 : (gN_ σ1016 163) < gN_ σ1398 163 := Nat.lt_of_lt_of_le hc1392 (hx1.2.1 163)
  have hc1430 : (gN_ σ1081 164) < gN_ σ1398 164 := Nat.lt_of_lt_of_le hc1393 (hx1.2.1 164)
  have hc1431 : (gN_ σ1148 165) < gN_ σ1398 165 := Nat.lt_of_lt_of_le hc1394 (hx1.2.1 165)
  have hc1432 : (gN_ σ1217 166) < gN_ σ1398 166 := Nat.lt_of_lt_of_le hc1395 (hx1.2.1 166)
  have hc1433 : (gN_ σ1288 171) < gN_ σ1398 171 := Nat.lt_of_lt_of_le hc1396 (hx1.2.1 171)
  have hc1434 : gN_ σ1361 175 < gN_ σ1398 175 := by rw [e1399]; exact nA_lt rfl
  rw [show ow_ 175 = 175 from rfl]
  have hl : lv_has ls 2 [(0, .ref (L 109 0))] := by rw [hx1.at hp1397 (by decide)]; exact hl
  refine ww_stk (st1 := [.ref (L 175 (gN_ σ1361 175)), .ref (L 109 0)]) (by rw [hx1.at hp1397 (by decide)]) ?_
  have hx0 := hx0.trans hx1
  obtain ⟨hc1435, hs⟩ := ww_chk hs
  have hpq : pr σ1398 175 (gN_ σ1361 175) := (pr_dy hc1434 rfl rfl)
  rw [hc1435] at hpq
  obtain ⟨σ1436, e1437, hs⟩ := ww_let hs
  refine ww_markF (d := (1, 175, 0)) hx hb hts hown (hnm.trans rfl) hW 109 0 65 0 (pr_dy hc1400 rfl rfl) (tgd_1 hpq) (obv_0 rfl) rfl (by decide) (Nat.le_of_ble_eq_true rfl) in_X10 tyX10_ok nmX10 rfl (Nat.le_of_ble_eq_true rfl) (hts _ q1758) (fun _ h => h) rfl rfl rfl (fun _ => rfl) (fun _ => rfl) (by rw [hc1435]; rfl) dX10_init_276 (fun H locs hW => ?_)
  have hW : wv g L σ1436 s H locs := by rw [e1437]; exact hW
  obtain ⟨hx0, hcs⟩ := lx_s (σ1 := σ1436) hx0 hcs (by rw [e1437]; exact (kp_M (by decide)))
  have hc1438 : 0 < gN_ σ1436 109 := by rw [e1437]; exact hc1400
  have hc1439 : (gN_ σ 112) < gN_ σ1436 112 := by rw [e1437]; exact hc1401
  have hc1440 : (gN_ σ17 113) < gN_ σ1436 113 := by rw [e1437]; exact hc1402
  have hc1441 : (gN_ σ28 114) < gN_ σ1436 114 := by rw [e1437]; exact hc1403
  have hc1442 : (gN_ σ41 115) < gN_ σ1436 115 := by rw [e1437]; exact hc1404
  have hc1443 : (gN_ σ56 116) < gN_ σ1436 116 := by rw [e1437]; exact hc1405
  have hc1444 : (gN_ σ73 117) < gN_ σ1436 117 := by rw [e1437]; exact hc1406
  have hc1445 : (gN_ σ92 118) < gN_ σ1436 118 := by rw [e1437]; exact hc1407
  have hc1446 : (gN_ σ113 119) < gN_ σ1436 119 := by rw [e1437]; exact hc1408
  have hc1447 : (gN_ σ136 127) < gN_ σ1436 127 := by rw [e1437]; exact hc1409
  have hc1448 : (gN_ σ161 128) < gN_ σ1436 128 := by rw [e1437]; exact hc1410
  have hc1449 : (gN_ σ188 129) < gN_ σ1436 129 := by rw [e1437]; exact hc1411
  have hc1450 : (gN_ σ217 130) < gN_ σ1436 130 := by rw [e1437]; exact hc1412
  have hc1451 : (gN_ σ248 131) < gN_ σ1436 131 := by rw [e1437]; exact hc1413
  have hc1452 : (gN_ σ281 137) < gN_ σ1436 137 := by rw [e1437]; exact hc1414
  have hc1453 : (gN_ σ316 138) < gN_ σ1436 138 := by rw [e1437]; exact hc1415
  have hc1454 : (gN_ σ353 145) < gN_ σ1436 145 := by rw [e1437]; exact hc1416
  have hc1455 : (gN_ σ392 146) < gN_ σ1436 146 := by rw [e1437]; exact hc1417
  have hc1456 : (gN_ σ433 147) < gN_ σ1436 147 := by rw [e1437]; exact hc1418
  have hc1457 : (gN_ σ476 148) < gN_ σ1436 148 := by rw [e1437]; exact hc1419
  have hc1458 : (gN_ σ521 150) < gN_ σ1436 150 := by rw [e1437]; exact hc1420
  have hc1459 : (gN_ σ568 151) < gN_ σ1436 151 := by rw [e1437]; exact hc1421
  have hc1460 : (gN_ σ617 152) < gN_ σ1436 152 := by rw [e1437]; exact hc1422
  have hc1461 : (gN_ σ668 153) < gN_ σ1436 153 := by rw [e1437]; exact hc1423
  have hc1462 : (gN_ σ721 154) < gN_ σ1436 154 := by rw [e1437]; exact hc1424
  have hc1463 : (gN_ σ776 155) < gN_ σ1436 155 := by rw [e1437]; exact hc1425
  have hc1464 : (gN_ σ833 156) < gN_ σ1436 156 := by rw [e1437]; exact hc1426
  have hc1465 : (gN_ σ892 157) < gN_ σ1436 157 := by rw [e1437]; exact hc1427
  have hc1466 : (gN_ σ953 158) < gN_ σ1436 158 := by rw [e1437]; exact hc1428
  have hc1467 : (gN_ σ1016 163) < gN_ σ1436 163 := by rw [e1437]; exact hc1429
  have hc1468 : (gN_ σ1081 164) < gN_ σ1436 164 := by rw [e1437]; exact hc1430
  have hc1469 : (gN_ σ1148 165) < gN_ σ1436 165 := by rw [e1437]; exact hc1431
  have hc1470 : (gN_ σ1217 166) < gN_ σ1436 166 := by rw [e1437]; exact hc1432
  have hc1471 : (gN_ σ1288 171) < gN_ σ1436 171 := by rw [e1437]; exact hc1433
  have hc1472 : (gN_ σ1361 175) < gN_ σ1436 175 := by rw [e1437]; exact hc1434
  refine lv_aload_n hx hb dX10_init_279 rfl (lv_at hl 0 rfl) ?_
  refine lv_bipush (v := 10) hx hb dX10_init_280 (by decide) ?_
  have hp1473 : pr σ1436 109 0 := (pr_dy hc1438 rfl rfl)
  obtain ⟨σ1474, e1475, hs⟩ := ww_let hs
  obtain ⟨hs, hck⟩ := ww_ck1 hs
  have hrm1 := hcs.room (σ1 := σ1474) (a := 1) (b := 10) (by rw [e1475]; rfl) (by rw [e1475]; rfl) hck
  refine ww_newa (atype := .int) hx hb (hts _ q201) hW 176 0 10 (Or.inl rfl) sole_176 (Or.inr hgm) rfl rfl rfl (by decide) rfl (Nat.le_of_ble_eq_true rfl) hrm1.1 hrm1.2 dX10_init_282 (fun H L hx1 hW => ?_)
  rw [← e1475] at hx1 hW
  have hcs := hcs.more (σ1 := σ1474) (a := 1) (b := 10) (by rw [e1475]; rfl) (by rw [e1475]; rfl)
  have hrm := hrm1
  have hc1476 : 0 < gN_ σ1474 109 := Nat.lt_of_lt_of_le hc1438 (hx1.2.1 109)
  have hc1477 : (gN_ σ 112) < gN_ σ1474 112 := Nat.lt_of_lt_of_le hc1439 (hx1.2.1 112)
  have hc1478 : (gN_ σ17 113) < gN_ σ1474 113 := Nat.lt_of_lt_of_le hc1440 (hx1.2.1 113)
  have hc1479 : (gN_ σ28 114) < gN_ σ1474 114 := Nat.lt_of_lt_of_le hc1441 (hx1.2.1 114)
  have hc1480 : (gN_ σ41 115) < gN_ σ1474 115 := Nat.lt_of_lt_of_le hc1442 (hx1.2.1 115)
  have hc1481 : (gN_ σ56 116) < gN_ σ1474 116 := Nat.lt_of_lt_of_le hc1443 (hx1.2.1 116)
  have hc1482 : (gN_ σ73 117) < gN_ σ1474 117 := Nat.lt_of_lt_of_le hc1444 (hx1.2.1 117)
  have hc1483 : (gN_ σ92 118) < gN_ σ1474 118 := Nat.lt_of_lt_of_le hc1445 (hx1.2.1 118)
  have hc1484 : (gN_ σ113 119) < gN_ σ1474 119 := Nat.lt_of_lt_of_le hc1446 (hx1.2.1 119)
  have hc1485 : (gN_ σ136 127) < gN_ σ1474 127 := Nat.lt_of_lt_of_le hc1447 (hx1.2.1 127)
  have hc1486 : (gN_ σ161 128) < gN_ σ1474 128 := Nat.lt_of_lt_of_le hc1448 (hx1.2.1 128)
  have hc1487 : (gN_ σ188 129) < gN_ σ1474 129 := Nat.lt_of_lt_of_le hc1449 (hx1.2.1 129)
  have hc1488 : (gN_ σ217 130) < gN_ σ1474 130 := Nat.lt_of_lt_of_le hc1450 (hx1.2.1 130)
  have hc1489 : (gN_ σ248 131) < gN_ σ1474 131 := Nat.lt_of_lt_of_le hc1451 (hx1.2.1 131)
  have hc1490 : (gN_ σ281 137) < gN_ σ1474 137 := Nat.lt_of_lt_of_le hc1452 (hx1.2.1 137)
  have hc1491 : (gN_ σ316 138) < gN_ σ1474 138 := Nat.lt_of_lt_of_le hc1453 (hx1.2.1 138)
  have hc1492 : (gN_ σ353 145) < gN_ σ1474 145 := Nat.lt_of_lt_of_le hc1454 (hx1.2.1 145)
  have hc1493 : (gN_ σ392 146) < gN_ σ1474 146 := Nat.lt_of_lt_of_le hc1455 (hx1.2.1 146)
  have hc1494 : (gN_ σ433 147) < gN_ σ1474 147 := Nat.lt_of_lt_of_le hc1456 (hx1.2.1 147)
  have hc1495 : (gN_ σ476 148) < gN_ σ1474 148 := Nat.lt_of_lt_of_le hc1457 (hx1.2.1 148)
  have hc1496 : (gN_ σ521 150) < gN_ σ1474 150 := Nat.lt_of_lt_of_le hc1458 (hx1.2.1 150)
  have hc1497 : (gN_ σ568 151) < gN_ σ1474 151 := Nat.lt_of_lt_of_le hc1459 (hx1.2.1 151)
  have hc1498 : (gN_ σ617 152) < gN_ σ1474 152 := Nat.lt_of_lt_of_le hc1460 (hx1.2.1 152)
  have hc1499 : (gN_ σ668 153) < gN_ σ1474 153 := Nat.lt_of_lt_of_le hc1461 (hx1.2.1 153)
  have hc1500 : (gN_ σ721 154) < gN_ σ1474 154 := Nat.lt_of_lt_of_le hc1462 (hx1.2.1 154)
  have hc1501 : (gN_ σ776 155) < gN_ σ1474 155 := Nat.lt_of_lt_of_le hc1463 (hx1.2.1 155)
  have hc1502 : (gN_ σ833 156) < gN_ σ1474 156 := Nat.lt_of_lt_of_le hc1464 (hx1.2.1 156)
  have hc1503 : (gN_ σ892 157) < gN_ σ1474 157 := Nat.lt_of_lt_of_le hc1465 (hx1.2.1 157)
  have hc1504 : (gN_ σ953 158) < gN_ σ1474 158 := Nat.lt_of_lt_of_le hc1466 (hx1.2.1 158)
  have hc1505 : (gN_ σ1016 163) < gN_ σ1474 163 := Nat.lt_of_lt_of_le hc1467 (hx1.2.1 163)
  have hc1506 : (gN_ σ1081 164) < gN_ σ1474 164 := Nat.lt_of_lt_of_le hc1468 (hx1.2.1 164)
  have hc1507 : (gN_ σ1148 165) < gN_ σ1474 165 := Nat.lt_of_lt_of_le hc1469 (hx1.2.1 165)
  have hc1508 : (gN_ σ1217 166) < gN_ σ1474 166 := Nat.lt_of_lt_of_le hc1470 (hx1.2.1 166)
  have hc1509 : (gN_ σ1288 171) < gN_ σ1474 171 := Nat.lt_of_lt_of_le hc1471 (hx1.2.1 171)
  have hc1510 : (gN_ σ1361 175) < gN_ σ1474 175 := Nat.lt_of_lt_of_le hc1472 (hx1.2.1 175)
  have hc1511 : gN_ σ1436 176 < gN_ σ1474 176 := by rw [e1475]; exact nA_lt rfl
  rw [show ow_ 176 = 176 from rfl]
  have hl : lv_has ls 2 [(0, .ref (L 109 0))] := by rw [hx1.at hp1473 (by decide)]; exact hl
  refine ww_stk (st1 := [.ref (L 176 (gN_ σ1436 176)), .ref (L 109 0)]) (by rw [hx1.at hp1473 (by decide)]) ?_
  have hx0 := hx0.trans hx1
  obtain ⟨hc1512, hs⟩ := ww_chk hs
  have hpq : pr σ1474 176 (gN_ σ1436 176) := (pr_dy hc1511 rfl rfl)
  rw [hc1512] at hpq
  obtain ⟨σ1513, e1514, hs⟩ := ww_let hs
  refine ww_markF (d := (1, 176, 0)) hx hb hts hown (hnm.trans rfl) hW 109 0 66 0 (pr_dy hc1476 rfl rfl) (tgd_1 hpq) (obv_0 rfl) rfl (by decide) (Nat.le_of_ble_eq_true rfl) in_X10 tyX10_ok nmX10 rfl (Nat.le_of_ble_eq_true rfl) (hts _ q1759) (fun _ h => h) rfl rfl rfl (fun _ => rfl) (fun _ => rfl) (by rw [hc1512]; rfl) dX10_init_284 (fun H locs hW => ?_)
  have hW : wv g L σ1513 s H locs := by rw [e1514]; exact hW
  obtain ⟨hx0, hcs⟩ := lx_s (σ1 := σ1513) hx0 hcs (by rw [e1514]; exact (kp_M (by decide)))
  have hc1515 : 0 < gN_ σ1513 109 := by rw [e1514]; exact hc1476
  have hc1516 : (gN_ σ 112) < gN_ σ1513 112 := by rw [e1514]; exact hc1477
  have hc1517 : (gN_ σ17 113) < gN_ σ1513 113 := by rw [e1514]; exact hc1478
  have hc1518 : (gN_ σ28 114) < gN_ σ1513 114 := by rw [e1514]; exact hc1479
  have hc1519 : (gN_ σ41 115) < gN_ σ1513 115 := by rw [e1514]; exact hc1480
  have hc1520 : (gN_ σ56 116) < gN_ σ1513 116 := by rw [e1514]; exact hc1481
  have hc1521 : (gN_ σ73 117) < gN_ σ1513 117 := by rw [e1514]; exact hc1482
  have hc1522 : (gN_ σ92 118) < gN_ σ1513 118 := by rw [e1514]; exact hc1483
  have hc1523 : (gN_ σ113 119) < gN_ σ1513 119 := by rw [e1514]; exact hc1484
  have hc1524 : (gN_ σ136 127) < gN_ σ1513 127 := by rw [e1514]; exact hc1485
  have hc1525 : (gN_ σ161 128) < gN_ σ1513 128 := by rw [e1514]; exact hc1486
  have hc1526 : (gN_ σ188 129) < gN_ σ1513 129 := by rw [e1514]; exact hc1487
  have hc1527 : (gN_ σ217 130) < gN_ σ1513 130 := by rw [e1514]; exact hc1488
  have hc1528 : (gN_ σ248 131) < gN_ σ1513 131 := by rw [e1514]; exact hc1489
  have hc1529 : (gN_ σ281 137) < gN_ σ1513 137 := by rw [e1514]; exact hc1490
  have hc1530 : (gN_ σ316 138) < gN_ σ1513 138 := by rw [e1514]; exact hc1491
  have hc1531 : (gN_ σ353 145) < gN_ σ1513 145 := by rw [e1514]; exact hc1492
  have hc1532 : (gN_ σ392 146) < gN_ σ1513 146 := by rw [e1514]; exact hc1493
  have hc1533 : (gN_ σ433 147) < gN_ σ1513 147 := by rw [e1514]; exact hc1494
  have hc1534 : (gN_ σ476 148) < gN_ σ1513 148 := by rw [e1514]; exact hc1495
  have hc1535 : (gN_ σ521 150) < gN_ σ1513 150 := by rw [e1514]; exact hc1496
  have hc1536 : (gN_ σ568 151) < gN_ σ1513 151 := by rw [e1514]; exact hc1497
  have hc1537 : (gN_ σ617 152) < gN_ σ1513 152 := by rw [e1514]; exact hc1498
  have hc1538 : (gN_ σ668 153) < gN_ σ1513 153 := by rw [e1514]; exact hc1499
  have hc1539 : (gN_ σ721 154) < gN_ σ1513 154 := by rw [e1514]; exact hc1500
  have hc1540 : (gN_ σ776 155) < gN_ σ1513 155 := by rw [e1514]; exact hc1501
  have hc1541 : (gN_ σ833 156) < gN_ σ1513 156 := by rw [e1514]; exact hc1502
  have hc1542 : (gN_ σ892 157) < gN_ σ1513 157 := by rw [e1514]; exact hc1503
  have hc1543 : (gN_ σ953 158) < gN_ σ1513 158 := by rw [e1514]; exact hc1504
  have hc1544 : (gN_ σ1016 163) < gN_ σ1513 163 := by rw [e1514]; exact hc1505
  have hc1545 : (gN_ σ1081 164) < gN_ σ1513 164 := by rw [e1514]; exact hc1506
  have hc1546 : (gN_ σ1148 165) < gN_ σ1513 165 := by rw [e1514]; exact hc1507
  have hc1547 : (gN_ σ1217 166) < gN_ σ1513 166 := by rw [e1514]; exact hc1508
  have hc1548 : (gN_ σ1288 171) < gN_ σ1513 171 := by rw [e1514]; exact hc1509
  have hc1549 : (gN_ σ1361 175) < gN_ σ1513 175 := by rw [e1514]; exact hc1510
  have hc1550 : (gN_ σ1436 176) < gN_ σ1513 176 := by rw [e1514]; exact hc1511
  refine lv_aload_n hx hb dX10_init_287 rfl (lv_at hl 0 rfl) ?_
  refine lv_bipush (v := 60) hx hb dX10_init_288 (by decide) ?_
  have hp1551 : pr σ1513 109 0 := (pr_dy hc1515 rfl rfl)
  obtain ⟨σ1552, e1553, hs⟩ := ww_let hs
  obtain ⟨hs, hck⟩ := ww_ck1 hs
  have hrm1 := hcs.room (σ1 := σ1552) (a := 1) (b := 60) (by rw [e1553]; rfl) (by rw [e1553]; rfl) hck
  refine ww_newa (atype := .int) hx hb (hts _ q201) hW 177 0 60 (Or.inl rfl) sole_177 (Or.inr hgm) rfl rfl rfl (by decide) rfl (Nat.le_of_ble_eq_true rfl) hrm1.1 hrm1.2 dX10_init_290 (fun H L hx1 hW => ?_)
  rw [← e1553] at hx1 hW
  have hcs := hcs.more (σ1 := σ1552) (a := 1) (b := 60) (by rw [e1553]; rfl) (by rw [e1553]; rfl)
  have hrm := hrm1
  have hc1554 : 0 < gN_ σ1552 109 := Nat.lt_of_lt_of_le hc1515 (hx1.2.1 109)
  have hc1555 : (gN_ σ 112) < gN_ σ1552 112 := Nat.lt_of_lt_of_le hc1516 (hx1.2.1 112)
  have hc1556 : (gN_ σ17 113) < gN_ σ1552 113 := Nat.lt_of_lt_of_le hc1517 (hx1.2.1 113)
  have hc1557 : (gN_ σ28 114) < gN_ σ1552 114 := Nat.lt_of_lt_of_le hc1518 (hx1.2.1 114)
  have hc1558 : (gN_ σ41 115) < gN_ σ1552 115 := Nat.lt_of_lt_of_le hc1519 (hx1.2.1 115)
  have hc1559 : (gN_ σ56 116) < gN_ σ1552 116 := Nat.lt_of_lt_of_le hc1520 (hx1.2.1 116)
  have hc1560 : (gN_ σ73 117) < gN_ σ1552 117 := Nat.lt_of_lt_of_le hc1521 (hx1.2.1 117)
  have hc1561 : (gN_ σ92 118) < gN_ σ1552 118 := Nat.lt_of_lt_of_le hc1522 (hx1.2.1 118)
  have hc1562 : (gN_ σ113 119) < gN_ σ1552 119 := Nat.lt_of_lt_of_le hc1523 (hx1.2.1 119)
  have hc1563 : (gN_ σ136 127) < gN_ σ1552 127 := Nat.lt_of_lt_of_le hc1524 (hx1.2.1 127)
  have hc1564 : (gN_ σ161 128) < gN_ σ1552 128 := Nat.lt_of_lt_of_le hc1525 (hx1.2.1 128)
  have hc1565 : (gN_ σ188 129) < gN_ σ1552 129 := Nat.lt_of_lt_of_le hc1526 (hx1.2.1 129)
  have hc1566 : (gN_ σ217 130) < gN_ σ1552 130 := Nat.lt_of_lt_of_le hc1527 (hx1.2.1 130)
  have hc1567 : (gN_ σ248 131) < gN_ σ1552 131 := Nat.lt_of_lt_of_le hc1528 (hx1.2.1 131)
  have hc1568 : (gN_ σ281 137) < gN_ σ1552 137 := Nat.lt_of_lt_of_le hc1529 (hx1.2.1 137)
  have hc1569 : (gN_ σ316 138) < gN_ σ1552 138 := Nat.lt_of_lt_of_le hc1530 (hx1.2.1 138)
  have hc1570 : (gN_ σ353 145) < gN_ σ1552 145 := Nat.lt_of_lt_of_le hc1531 (hx1.2.1 145)
  have hc1571 : (gN_ σ392 146) < gN_ σ1552 146 := Nat.lt_of_lt_of_le hc1532 (hx1.2.1 146)
  have hc1572 : (gN_ σ433 147) < gN_ σ1552 147 := Nat.lt_of_lt_of_le hc1533 (hx1.2.1 147)
  have hc1573 : (gN_ σ476 148) < gN_ σ1552 148 := Nat.lt_of_lt_of_le hc1534 (hx1.2.1 148)
  have hc1574 : (gN_ σ521 150) < gN_ σ1552 150 := Nat.lt_of_lt_of_le hc1535 (hx1.2.1 150)
  have hc1575 : (gN_ σ568 151) < gN_ σ1552 151 := Nat.lt_of_lt_of_le hc1536 (hx1.2.1 151)
  have hc1576 : (gN_ σ617 152) < gN_ σ1552 152 := Nat.lt_of_lt_of_le hc1537 (hx1.2.1 152)
  have hc1577 : (gN_ σ668 153) < gN_ σ1552 153 := Nat.lt_of_lt_of_le hc1538 (hx1.2.1 153)
  have hc1578 : (gN_ σ721 154) < gN_ σ1552 154 := Nat.lt_of_lt_of_le hc1539 (hx1.2.1 154)
  have hc1579 : (gN_ σ776 155) < gN_ σ1552 155 := Nat.lt_of_lt_of_le hc1540 (hx1.2.1 155)
  have hc1580 : (gN_ σ833 156) < gN_ σ1552 156 := Nat.lt_of_lt_of_le hc1541 (hx1.2.1 156)
  have hc1581 : (gN_ σ892 157) < gN_ σ1552 157 := Nat.lt_of_lt_of_le hc1542 (hx1.2.1 157)
  have hc1582 : (gN_ σ953 158) < gN_ σ1552 158 := Nat.lt_of_lt_of_le hc1543 (hx1.2.1 158)
  have hc1583 : (gN_ σ1016 163) < gN_ σ1552 163 := Nat.lt_of_lt_of_le hc1544 (hx1.2.1 163)
  have hc1584 : (gN_ σ1081 164) < gN_ σ1552 164 := Nat.lt_of_lt_of_le hc1545 (hx1.2.1 164)
  have hc1585 : (gN_ σ1148 165) < gN_ σ1552 165 := Nat.lt_of_lt_of_le hc1546 (hx1.2.1 165)
  have hc1586 : (gN_ σ1217 166) < gN_ σ1552 166 := Nat.lt_of_lt_of_le hc1547 (hx1.2.1 166)
  have hc1587 : (gN_ σ1288 171) < gN_ σ1552 171 := Nat.lt_of_lt_of_le hc1548 (hx1.2.1 171)
  have hc1588 : (gN_ σ1361 175) < gN_ σ1552 175 := Nat.lt_of_lt_of_le hc1549 (hx1.2.1 175)
  have hc1589 : (gN_ σ1436 176) < gN_ σ1552 176 := Nat.lt_of_lt_of_le hc1550 (hx1.2.1 176)
  have hc1590 : gN_ σ1513 177 < gN_ σ1552 177 := by rw [e1553]; exact nA_lt rfl
  rw [show ow_ 177 = 177 from rfl]
  have hl : lv_has ls 2 [(0, .ref (L 109 0))] := by rw [hx1.at hp1551 (by decide)]; exact hl
  refine ww_stk (st1 := [.ref (L 177 (gN_ σ1513 177)), .ref (L 109 0)]) (by rw [hx1.at hp1551 (by decide)]) ?_
  have hx0 := hx0.trans hx1
  obtain ⟨hc1591, hs⟩ := ww_chk hs
  have hpq : pr σ1552 177 (gN_ σ1513 177) := (pr_dy hc1590 rfl rfl)
  rw [hc1591] at hpq
  obtain ⟨σ1592, e1593, hs⟩ := ww_let hs
  refine ww_markF (d := (1, 177, 0)) hx hb hts hown (hnm.trans rfl) hW 109 0 67 0 (pr_dy hc1554 rfl rfl) (tgd_1 hpq) (obv_0 rfl) rfl (by decide) (Nat.le_of_ble_eq_true rfl) in_X10 tyX10_ok nmX10 rfl (Nat.le_of_ble_eq_true rfl) (hts _ q1760) (fun _ h => h) rfl rfl rfl (fun _ => rfl) (fun _ => rfl) (by rw [hc1591]; rfl) dX10_init_292 (fun H locs hW => ?_)
  have hW : wv g L σ1592 s H locs := by rw [e1593]; exact hW
  obtain ⟨hx0, hcs⟩ := lx_s (σ1 := σ1592) hx0 hcs (by rw [e1593]; exact (kp_M (by decide)))
  have hc1594 : 0 < gN_ σ1592 109 := by rw [e1593]; exact hc1554
  have hc1595 : (gN_ σ 112) < gN_ σ1592 112 := by rw [e1593]; exact hc1555
  have hc1596 : (gN_ σ17 113) < gN_ σ1592 113 := by rw [e1593]; exact hc1556
  have hc1597 : (gN_ σ28 114) < gN_ σ1592 114 := by rw [e1593]; exact hc1557
  have hc1598 : (gN_ σ41 115) < gN_ σ1592 115 := by rw [e1593]; exact hc1558
  have hc1599 : (gN_ σ56 116) < gN_ σ1592 116 := by rw [e1593]; exact hc1559
  have hc1600 : (gN_ σ73 117) < gN_ σ1592 117 := by rw [e1593]; exact hc1560
  have hc1601 : (gN_ σ92 118) < gN_ σ1592 118 := by rw [e1593]; exact hc1561
  have hc1602 : (gN_ σ113 119) < gN_ σ1592 119 := by rw [e1593]; exact hc1562
  have hc1603 : (gN_ σ136 127) < gN_ σ1592 127 := by rw [e1593]; exact hc1563
  have hc1604 : (gN_ σ161 128) < gN_ σ1592 128 := by rw [e1593]; exact hc1564
  have hc1605 : (gN_ σ188 129) < gN_ σ1592 129 := by rw [e1593]; exact hc1565
  have hc1606 : (gN_ σ217 130) < gN_ σ1592 130 := by rw [e1593]; exact hc1566
  have hc1607 : (gN_ σ248 131) < gN_ σ1592 131 := by rw [e1593]; exact hc1567
  have hc1608 : (gN_ σ281 137) < gN_ σ1592 137 := by rw [e1593]; exact hc1568
  have hc1609 : (gN_ σ316 138) < gN_ σ1592 138 := by rw [e1593]; exact hc1569
  have hc1610 : (gN_ σ353 145) < gN_ σ1592 145 := by rw [e1593]; exact hc1570
  have hc1611 : (gN_ σ392 146) < gN_ σ1592 146 := by rw [e1593]; exact hc1571
  have hc1612 : (gN_ σ433 147) < gN_ σ1592 147 := by rw [e1593]; exact hc1572
  have hc1613 : (gN_ σ476 148) < gN_ σ1592 148 := by rw [e1593]; exact hc1573
  have hc1614 : (gN_ σ521 150) < gN_ σ1592 150 := by rw [e1593]; exact hc1574
  have hc1615 : (gN_ σ568 151) < gN_ σ1592 151 := by rw [e1593]; exact hc1575
  have hc1616 : (gN_ σ617 152) < gN_ σ1592 152 := by rw [e1593]; exact hc1576
  have hc1617 : (gN_ σ668 153) < gN_ σ1592 153 := by rw [e1593]; exact hc1577
  have hc1618 : (gN_ σ721 154) < gN_ σ1592 154 := by rw [e1593]; exact hc1578
  have hc1619 : (gN_ σ776 155) < gN_ σ1592 155 := by rw [e1593]; exact hc1579
  have hc1620 : (gN_ σ833 156) < gN_ σ1592 156 := by rw [e1593]; exact hc1580
  have hc1621 : (gN_ σ892 157) < gN_ σ1592 157 := by rw [e1593]; exact hc1581
  have hc1622 : (gN_ σ953 158) < gN_ σ1592 158 := by rw [e1593]; exact hc1582
  have hc1623 : (gN_ σ1016 163) < gN_ σ1592 163 := by rw [e1593]; exact hc1583
  have hc1624 : (gN_ σ1081 164) < gN_ σ1592 164 := by rw [e1593]; exact hc1584
  have hc1625 : (gN_ σ1148 165) < gN_ σ1592 165 := by rw [e1593]; exact hc1585
  have hc1626 : (gN_ σ1217 166) < gN_ σ1592 166 := by rw [e1593]; exact hc1586
  have hc1627 : (gN_ σ1288 171) < gN_ σ1592 171 := by rw [e1593]; exact hc1587
  have hc1628 : (gN_ σ1361 175) < gN_ σ1592 175 := by rw [e1593]; exact hc1588
  have hc1629 : (gN_ σ1436 176) < gN_ σ1592 176 := by rw [e1593]; exact hc1589
  have hc1630 : (gN_ σ1513 177) < gN_ σ1592 177 := by rw [e1593]; exact hc1590
  refine lv_aload_n hx hb dX10_init_295 rfl (lv_at hl 0 rfl) ?_
  refine lv_bipush (v := 60) hx hb dX10_init_296 (by decide) ?_
  have hp1631 : pr σ1592 109 0 := (pr_dy hc1594 rfl rfl)
  obtain ⟨σ1632, e1633, hs⟩ := ww_let hs
  obtain ⟨hs, hck⟩ := ww_ck1 hs
  have hrm1 := hcs.room (σ1 := σ1632) (a := 1) (b := 60) (by rw [e1633]; rfl) (by rw [e1633]; rfl) hck
  refine ww_newa (atype := .int) hx hb (hts _ q201) hW 178 0 60 (Or.inl rfl) sole_178 (Or.inr hgm) rfl rfl rfl (by decide) rfl (Nat.le_of_ble_eq_true rfl) hrm1.1 hrm1.2 dX10_init_298 (fun H L hx1 hW => ?_)
  rw [← e1633] at hx1 hW
  have hcs := hcs.more (σ1 := σ1632) (a := 1) (b := 60) (by rw [e1633]; rfl) (by rw [e1633]; rfl)
  have hrm := hrm1
  have hc1634 : 0 < gN_ σ1632 109 := Nat.lt_of_lt_of_le hc1594 (hx1.2.1 109)
  have hc1635 : (gN_ σ 112) < gN_ σ1632 112 := Nat.lt_of_lt_of_le hc1595 (hx1.2.1 112)
  have hc1636 : (gN_ σ17 113) < gN_ σ1632 113 := Nat.lt_of_lt_of_le hc1596 (hx1.2.1 113)
  have hc1637 : (gN_ σ28 114) < gN_ σ1632 114 := Nat.lt_of_lt_of_le hc1597 (hx1.2.1 114)
  have hc1638 : (gN_ σ41 115) < gN_ σ1632 115 := Nat.lt_of_lt_of_le hc1598 (hx1.2.1 115)
  have hc1639 : (gN_ σ56 116) < gN_ σ1632 116 := Nat.lt_of_lt_of_le hc1599 (hx1.2.1 116)
  have hc1640 : (gN_ σ73 117) < gN_ σ1632 117 := Nat.lt_of_lt_of_le hc1600 (hx1.2.1 117)
  have hc1641 : (gN_ σ92 118) < gN_ σ1632 118 := Nat.lt_of_lt_of_le hc1601 (hx1.2.1 118)
  have hc1642 : (gN_ σ113 119) < gN_ σ1632 119 := Nat.lt_of_lt_of_le hc1602 (hx1.2.1 119)
  have hc1643 : (gN_ σ136 127) < gN_ σ1632 127 := Nat.lt_of_lt_of_le hc1603 (hx1.2.1 127)
  have hc1644 : (gN_ σ161 128) < gN_ σ1632 128 := Nat.lt_of_lt_of_le hc1604 (hx1.2.1 128)
  have hc1645 : (gN_ σ188 129) < gN_ σ1632 129 := Nat.lt_of_lt_of_le hc1605 (hx1.2.1 129)
  have hc1646 : (gN_ σ217 130) < gN_ σ1632 130 := Nat.lt_of_lt_of_le hc1606 (hx1.2.1 130)
  have hc1647 : (gN_ σ248 131) < gN_ σ1632 131 := Nat.lt_of_lt_of_le hc1607 (hx1.2.1 131)
  have hc1648 : (gN_ σ281 137) < gN_ σ1632 137 := Nat.lt_of_lt_of_le hc1608 (hx1.2.1 137)
  have hc1649 : (gN_ σ316 138) < gN_ σ1632 138 := Nat.lt_of_lt_of_le hc1609 (hx1.2.1 138)
  have hc1650 : (gN_ σ353 145) < gN_ σ1632 145 := Nat.lt_of_lt_of_le hc1610 (hx1.2.1 145)
  have hc1651 : (gN_ σ392 146) < gN_ σ1632 146 := Nat.lt_of_lt_of_le hc1611 (hx1.2.1 146)
  have hc1652 : (gN_ σ433 147) < gN_ σ1632 147 := Nat.lt_of_lt_of_le hc1612 (hx1.2.1 147)
  have hc1653 : (gN_ σ476 148) < gN_ σ1632 148 := Nat.lt_of_lt_of_le hc1613 (hx1.2.1 148)
  have hc1654 : (gN_ σ521 150) < gN_ σ1632 150 := Nat.lt_of_lt_of_le hc1614 (hx1.2.1 150)
  have hc1655 : (gN_ σ568 151) < gN_ σ1632 151 := Nat.lt_of_lt_of_le hc1615 (hx1.2.1 151)
  have hc1656 : (gN_ σ617 152) < gN_ σ1632 152 := Nat.lt_of_lt_of_le hc1616 (hx1.2.1 152)
  have hc1657 : (gN_ σ668 153) < gN_ σ1632 153 := Nat.lt_of_lt_of_le hc1617 (hx1.2.1 153)
  have hc1658 : (gN_ σ721 154) < gN_ σ1632 154 := Nat.lt_of_lt_of_le hc1618 (hx1.2.1 154)
  have hc1659 : (gN_ σ776 155) < gN_ σ1632 155 := Nat.lt_of_lt_of_le hc1619 (hx1.2.1 155)
  have hc1660 : (gN_ σ833 156) < gN_ σ1632 156 := Nat.lt_of_lt_of_le hc1620 (hx1.2.1 156)
  have hc1661 : (gN_ σ892 157) < gN_ σ1632 157 := Nat.lt_of_lt_of_le hc1621 (hx1.2.1 157)
  have hc1662 : (gN_ σ953 158) < gN_ σ1632 158 := Nat.lt_of_lt_of_le hc1622 (hx1.2.1 158)
  have hc1663 : (gN_ σ1016 163) < gN_ σ1632 163 := Nat.lt_of_lt_of_le hc1623 (hx1.2.1 163)
  have hc1664 : (gN_ σ1081 164) < gN_ σ1632 164 := Nat.lt_of_lt_of_le hc1624 (hx1.2.1 164)
  have hc1665 : (gN_ σ1148 165) < gN_ σ1632 165 := Nat.lt_of_lt_of_le hc1625 (hx1.2.1 165)
  have hc1666 : (gN_ σ1217 166) < gN_ σ1632 166 := Nat.lt_of_lt_of_le hc1626 (hx1.2.1 166)
  have hc1667 : (gN_ σ1288 171) < gN_ σ1632 171 := Nat.lt_of_lt_of_le hc1627 (hx1.2.1 171)
  have hc1668 : (gN_ σ1361 175) < gN_ σ1632 175 := Nat.lt_of_lt_of_le hc1628 (hx1.2.1 175)
  have hc1669 : (gN_ σ1436 176) < gN_ σ1632 176 := Nat.lt_of_lt_of_le hc1629 (hx1.2.1 176)
  have hc1670 : (gN_ σ1513 177) < gN_ σ1632 177 := Nat.lt_of_lt_of_le hc1630 (hx1.2.1 177)
  have hc1671 : gN_ σ1592 178 < gN_ σ1632 178 := by rw [e1633]; exact nA_lt rfl
  rw [show ow_ 178 = 178 from rfl]
  have hl : lv_has ls 2 [(0, .ref (L 109 0))] := by rw [hx1.at hp1631 (by decide)]; exact hl
  refine ww_stk (st1 := [.ref (L 178 (gN_ σ1592 178)), .ref (L 109 0)]) (by rw [hx1.at hp1631 (by decide)]) ?_
  have hx0 := hx0.trans hx1
  obtain ⟨hc1672, hs⟩ := ww_chk hs
  have hpq : pr σ1632 178 (gN_ σ1592 178) := (pr_dy hc1671 rfl rfl)
  rw [hc1672] at hpq
  obtain ⟨σ1673, e1674, hs⟩ := ww_let hs
  refine ww_markF (d := (1, 178, 0)) hx hb hts hown (hnm.trans rfl) hW 109 0 68 0 (pr_dy hc1634 rfl rfl) (tgd_1 hpq) (obv_0 rfl) rfl (by decide) (Nat.le_of_ble_eq_true rfl) in_X10 tyX10_ok nmX10 rfl (Nat.le_of_ble_eq_true rfl) (hts _ q1761) (fun _ h => h) rfl rfl rfl (fun _ => rfl) (fun _ => rfl) (by rw [hc1672]; rfl) dX10_init_300 (fun H locs hW => ?_)
  have hW : wv g L σ1673 s H locs := by rw [e1674]; exact hW
  obtain ⟨hx0, hcs⟩ := lx_s (σ1 := σ1673) hx0 hcs (by rw [e1674]; exact (kp_M (by decide)))
  have hc1675 : 0 < gN_ σ1673 109 := by rw [e1674]; exact hc1634
  have hc1676 : (gN_ σ 112) < gN_ σ1673 112 := by rw [e1674]; exact hc1635
  have hc1677 : (gN_ σ17 113) < gN_ σ1673 113 := by rw [e1674]; exact hc1636
  have hc1678 : (gN_ σ28 114) < gN_ σ1673 114 := by rw [e1674]; exact hc1637
  have hc1679 : (gN_ σ41 115) < gN_ σ1673 115 := by rw [e1674]; exact hc1638
  have hc1680 : (gN_ σ56 116) < gN_ σ1673 116 := by rw [e1674]; exact hc1639
  have hc1681 : (gN_ σ73 117) < gN_ σ1673 117 := by rw [e1674]; exact hc1640
  have hc1682 : (gN_ σ92 118) < gN_ σ1673 118 := by rw [e1674]; exact hc1641
  have hc1683 : (gN_ σ113 119) < gN_ σ1673 119 := by rw [e1674]; exact hc1642
  have hc1684 : (gN_ σ136 127) < gN_ σ1673 127 := by rw [e1674]; exact hc1643
  have hc1685 : (gN_ σ161 128) < gN_ σ1673 128 := by rw [e1674]; exact hc1644
  have hc1686 : (gN_ σ188 129) < gN_ σ1673 129 := by rw [e1674]; exact hc1645
  have hc1687 : (gN_ σ217 130) < gN_ σ1673 130 := by rw [e1674]; exact hc1646
  have hc1688 : (gN_ σ248 131) < gN_ σ1673 131 := by rw [e1674]; exact hc1647
  have hc1689 : (gN_ σ281 137) < gN_ σ1673 137 := by rw [e1674]; exact hc1648
  have hc1690 : (gN_ σ316 138) < gN_ σ1673 138 := by rw [e1674]; exact hc1649
  have hc1691 : (gN_ σ353 145) < gN_ σ1673 145 := by rw [e1674]; exact hc1650
  have hc1692 : (gN_ σ392 146) < gN_ σ1673 146 := by rw [e1674]; exact hc1651
  have hc1693 : (gN_ σ433 147) < gN_ σ1673 147 := by rw [e1674]; exact hc1652
  have hc1694 : (gN_ σ476 148) < gN_ σ1673 148 := by rw [e1674]; exact hc1653
  have hc1695 : (gN_ σ521 150) < gN_ σ1673 150 := by rw [e1674]; exact hc1654
  have hc1696 : (gN_ σ568 151) < gN_ σ1673 151 := by rw [e1674]; exact hc1655
  have hc1697 : (gN_ σ617 152) < gN_ σ1673 152 := by rw [e1674]; exact hc1656
  have hc1698 : (gN_ σ668 153) < gN_ σ1673 153 := by rw [e1674]; exact hc1657
  have hc1699 : (gN_ σ721 154) < gN_ σ1673 154 := by rw [e1674]; exact hc1658
  have hc1700 : (gN_ σ776 155) < gN_ σ1673 155 := by rw [e1674]; exact hc1659
  have hc1701 : (gN_ σ833 156) < gN_ σ1673 156 := by rw [e1674]; exact hc1660
  have hc1702 : (gN_ σ892 157) < gN_ σ1673 157 := by rw [e1674]; exact hc1661
  have hc1703 : (gN_ σ953 158) < gN_ σ1673 158 := by rw [e1674]; exact hc1662
  have hc1704 : (gN_ σ1016 163) < gN_ σ1673 163 := by rw [e1674]; exact hc1663
  have hc1705 : (gN_ σ1081 164) < gN_ σ1673 164 := by rw [e1674]; exact hc1664
  have hc1706 : (gN_ σ1148 165) < gN_ σ1673 165 := by rw [e1674]; exact hc1665
  have hc1707 : (gN_ σ1217 166) < gN_ σ1673 166 := by rw [e1674]; exact hc1666
  have hc1708 : (gN_ σ1288 171) < gN_ σ1673 171 := by rw [e1674]; exact hc1667
  have hc1709 : (gN_ σ1361 175) < gN_ σ1673 175 := by rw [e1674]; exact hc1668
  have hc1710 : (gN_ σ1436 176) < gN_ σ1673 176 := by rw [e1674]; exact hc1669
  have hc1711 : (gN_ σ1513 177) < gN_ σ1673 177 := by rw [e1674]; exact hc1670
  have hc1712 : (gN_ σ1592 178) < gN_ σ1673 178 := by rw [e1674]; exact hc1671
  refine lv_aload_n hx hb dX10_init_303 rfl (lv_at hl 0 rfl) ?_
  refine lv_bipush (v := 60) hx hb dX10_init_304 (by decide) ?_
  have hp1713 : pr σ1673 109 0 := (pr_dy hc1675 rfl rfl)
  obtain ⟨σ1714, e1715, hs⟩ := ww_let hs
  obtain ⟨hs, hck⟩ := ww_ck1 hs
  have hrm1 := hcs.room (σ1 := σ1714) (a := 1) (b := 60) (by rw [e1715]; rfl) (by rw [e1715]; rfl) hck
  refine ww_newa (atype := .int) hx hb (hts _ q201) hW 179 0 60 (Or.inl rfl) sole_179 (Or.inr hgm) rfl rfl rfl (by decide) rfl (Nat.le_of_ble_eq_true rfl) hrm1.1 hrm1.2 dX10_init_306 (fun H L hx1 hW => ?_)
  rw [← e1715] at hx1 hW
  have hcs := hcs.more (σ1 := σ1714) (a := 1) (b := 60) (by rw [e1715]; rfl) (by rw [e1715]; rfl)
  have hrm := hrm1
  have hc1716 : 0 < gN_ σ1714 109 := Nat.lt_of_lt_of_le hc1675 (hx1.2.1 109)
  have hc1717 : (gN_ σ 112) < gN_ σ1714 112 := Nat.lt_of_lt_of_le hc1676 (hx1.2.1 112)
  have hc1718 : (gN_ σ17 113) < gN_ σ1714 113 := Nat.lt_of_lt_of_le hc1677 (hx1.2.1 113)
  have hc1719 : (gN_ σ28 114) < gN_ σ1714 114 := Nat.lt_of_lt_of_le hc1678 (hx1.2.1 114)
  have hc1720 : (gN_ σ41 115) < gN_ σ1714 115 := Nat.lt_of_lt_of_le hc1679 (hx1.2.1 115)
  have hc1721 : (gN_ σ56 116) < gN_ σ1714 116 := Nat.lt_of_lt_of_le hc1680 (hx1.2.1 116)
  have hc1722 : (gN_ σ73 117) < gN_ σ1714 117 := Nat.lt_of_lt_of_le hc1681 (hx1.2.1 117)
  have hc1723 : (gN_ σ92 118) < gN_ σ1714 118 := Nat.lt_of_lt_of_le hc1682 (hx1.2.1 118)
  have hc1724 : (gN_ σ113 119) < gN_ σ1714 119 := Nat.lt_of_lt_of_le hc1683 (hx1.2.1 119)
  have hc1725 : (gN_ σ136 127) < gN_ σ1714 127 := Nat.lt_of_lt_of_le hc1684 (hx1.2.1 127)
  have hc1726 : (gN_ σ161 128) < gN_ σ1714 128 := Nat.lt_of_lt_of_le hc1685 (hx1.2.1 128)
  have hc1727 : (gN_ σ188 129) < gN_ σ1714 129 := Nat.lt_of_lt_of_le hc1686 (hx1.2.1 129)
  have hc1728 : (gN_ σ217 130) < gN_ σ1714 130 := Nat.lt_of_lt_of_le hc1687 (hx1.2.1 130)
  have hc1729 : (gN_ σ248 131) < gN_ σ1714 131 := Nat.lt_of_lt_of_le hc1688 (hx1.2.1 131)
  have hc1730 : (gN_ σ281 137) < gN_ σ1714 137 := Nat.lt_of_lt_of_le hc1689 (hx1.2.1 137)
  have hc1731 : (gN_ σ316 138) < gN_ σ1714 138 := Nat.lt_of_lt_of_le hc1690 (hx1.2.1 138)
  have hc1732 : (gN_ σ353 145) < gN_ σ1714 145 := Nat.lt_of_lt_of_le hc1691 (hx1.2.1 145)
  have hc1733 : (gN_ σ392 146) < gN_ σ1714 146 := Nat.lt_of_lt_of_le hc1692 (hx1.2.1 146)
  have hc1734 : (gN_ σ433 147) < gN_ σ1714 147 := Nat.lt_of_lt_of_le hc1693 (hx1.2.1 147)
  have hc1735 : (gN_ σ476 148) < gN_ σ1714 148 := Nat.lt_of_lt_of_le hc1694 (hx1.2.1 148)
  have hc1736 : (gN_ σ521 150) < gN_ σ1714 150 := Nat.lt_of_lt_of_le hc1695 (hx1.2.1 150)
  have hc1737 : (gN_ σ568 151) < gN_ σ1714 151 := Nat.lt_of_lt_of_le hc1696 (hx1.2.1 151)
  have hc1738 : (gN_ σ617 152) < gN_ σ1714 152 := Nat.lt_of_lt_of_le hc1697 (hx1.2.1 152)
  have hc1739 : (gN_ σ668 153) < gN_ σ1714 153 := Nat.lt_of_lt_of_le hc1698 (hx1.2.1 153)
  have hc1740 : (gN_ σ721 154) < gN_ σ1714 154 := Nat.lt_of_lt_of_le hc1699 (hx1.2.1 154)
  have hc1741 : (gN_ σ776 155) < gN_ σ1714 155 := Nat.lt_of_lt_of_le hc1700 (hx1.2.1 155)
  have hc1742 : (gN_ σ833 156) < gN_ σ1714 156 := Nat.lt_of_lt_of_le hc1701 (hx1.2.1 156)
  have hc1743 : (gN_ σ892 157) < gN_ σ1714 157 := Nat.lt_of_lt_of_le hc1702 (hx1.2.1 157)
  have hc1744 : (gN_ σ953 158) < gN_ σ1714 158 := Nat.lt_of_lt_of_le hc1703 (hx1.2.1 158)
  have hc1745 : (gN_ σ1016 163) < gN_ σ1714 163 := Nat.lt_of_lt_of_le hc1704 (hx1.2.1 163)
  have hc1746 : (gN_ σ1081 164) < gN_ σ1714 164 := Nat.lt_of_lt_of_le hc1705 (hx1.2.1 164)
  have hc1747 : (gN_ σ1148 165) < gN_ σ1714 165 := Nat.lt_of_lt_of_le hc1706 (hx1.2.1 165)
  have hc1748 : (gN_ σ1217 166) < gN_ σ1714 166 := Nat.lt_of_lt_of_le hc1707 (hx1.2.1 166)
  have hc1749 : (gN_ σ1288 171) < gN_ σ1714 171 := Nat.lt_of_lt_of_le hc1708 (hx1.2.1 171)
  have hc1750 : (gN_ σ1361 175) < gN_ σ1714 175 := Nat.lt_of_lt_of_le hc1709 (hx1.2.1 175)
  have hc1751 : (gN_ σ1436 176) < gN_ σ1714 176 := Nat.lt_of_lt_of_le hc1710 (hx1.2.1 176)
  have hc1752 : (gN_ σ1513 177) < gN_ σ1714 177 := Nat.lt_of_lt_of_le hc1711 (hx1.2.1 177)
  have hc1753 : (gN_ σ1592 178) < gN_ σ1714 178 := Nat.lt_of_lt_of_le hc1712 (hx1.2.1 178)
  have hc1754 : gN_ σ1673 179 < gN_ σ1714 179 := by rw [e1715]; exact nA_lt rfl
  rw [show ow_ 179 = 179 from rfl]
  have hl : lv_has ls 2 [(0, .ref (L 109 0))] := by rw [hx1.at hp1713 (by decide)]; exact hl
  refine ww_stk (st1 := [.ref (L 179 (gN_ σ1673 179)), .ref (L 109 0)]) (by rw [hx1.at hp1713 (by decide)]) ?_
  have hx0 := hx0.trans hx1
  obtain ⟨hc1755, hs⟩ := ww_chk hs
  have hpq : pr σ1714 179 (gN_ σ1673 179) := (pr_dy hc1754 rfl rfl)
  rw [hc1755] at hpq
  obtain ⟨σ1756, e1757, hs⟩ := ww_let hs
  refine ww_markF (d := (1, 179, 0)) hx hb hts hown (hnm.trans rfl) hW 109 0 69 0 (pr_dy hc1716 rfl rfl) (tgd_1 hpq) (obv_0 rfl) rfl (by decide) (Nat.le_of_ble_eq_true rfl) in_X10 tyX10_ok nmX10 rfl (Nat.le_of_ble_eq_true rfl) (hts _ q1762) (fun _ h => h) rfl rfl rfl (fun _ => rfl) (fun _ => rfl) (by rw [hc1755]; rfl) dX10_init_308 (fun H locs hW => ?_)
  have hW : wv g L σ1756 s H locs := by rw [e1757]; exact hW
  obtain ⟨hx0, hcs⟩ := lx_s (σ1 := σ1756) hx0 hcs (by rw [e1757]; exact (kp_M (by decide)))
  have hc1758 : 0 < gN_ σ1756 109 := by rw [e1757]; exact hc1716
  have hc1759 : (gN_ σ 112) < gN_ σ1756 112 := by rw [e1757]; exact hc1717
  have hc1760 : (gN_ σ17 113) < gN_ σ1756 113 := by rw [e1757]; exact hc1718
  have hc1761 : (gN_ σ28 114) < gN_ σ1756 114 := by rw [e1757]; exact hc1719
  have hc1762 : (gN_ σ41 115) < gN_ σ1756 115 := by rw [e1757]; exact hc1720
  have hc1763 : (gN_ σ56 116) < gN_ σ1756 116 := by rw [e1757]; exact hc1721
  have hc1764 : (gN_ σ73 117) < gN_ σ1756 117 := by rw [e1757]; exact hc1722
  have hc1765 : (gN_ σ92 118) < gN_ σ1756 118 := by rw [e1757]; exact hc1723
  have hc1766 : (gN_ σ113 119) < gN_ σ1756 119 := by rw [e1757]; exact hc1724
  have hc1767 : (gN_ σ136 127) < gN_ σ1756 127 := by rw [e1757]; exact hc1725
  have hc1768 : (gN_ σ161 128) < gN_ σ1756 128 := by rw [e1757]; exact hc1726
  have hc1769 : (gN_ σ188 129) < gN_ σ1756 129 := by rw [e1757]; exact hc1727
  have hc1770 : (gN_ σ217 130) < gN_ σ1756 130 := by rw [e1757]; exact hc1728
  have hc1771 : (gN_ σ248 131) < gN_ σ1756 131 := by rw [e1757]; exact hc1729
  have hc1772 : (gN_ σ281 137) < gN_ σ1756 137 := by rw [e1757]; exact hc1730
  have hc1773 : (gN_ σ316 138) < gN_ σ1756 138 := by rw [e1757]; exact hc1731
  have hc1774 : (gN_ σ353 145) < gN_ σ1756 145 := by rw [e1757]; exact hc1732
  have hc1775 : (gN_ σ392 146) < gN_ σ1756 146 := by rw [e1757]; exact hc1733
  have hc1776 : (gN_ σ433 147) < gN_ σ1756 147 := by rw [e1757]; exact hc1734
  have hc1777 : (gN_ σ476 148) < gN_ σ1756 148 := by rw [e1757]; exact hc1735
  have hc1778 : (gN_ σ521 150) < gN_ σ1756 150 := by rw [e1757]; exact hc1736
  have hc1779 : (gN_ σ568 151) < gN_ σ1756 151 := by rw [e1757]; exact hc1737
  have hc1780 : (gN_ σ617 152) < gN_ σ1756 152 := by rw [e1757]; exact hc1738
  have hc1781 : (gN_ σ668 153) < gN_ σ1756 153 := by rw [e1757]; exact hc1739
  have hc1782 : (gN_ σ721 154) < gN_ σ1756 154 := by rw [e1757]; exact hc1740
  have hc1783 : (gN_ σ776 155) < gN_ σ1756 155 := by rw [e1757]; exact hc1741
  have hc1784 : (gN_ σ833 156) < gN_ σ1756 156 := by rw [e1757]; exact hc1742
  have hc1785 : (gN_ σ892 157) < gN_ σ1756 157 := by rw [e1757]; exact hc1743
  have hc1786 : (gN_ σ953 158) < gN_ σ1756 158 := by rw [e1757]; exact hc1744
  have hc1787 : (gN_ σ1016 163) < gN_ σ1756 163 := by rw [e1757]; exact hc1745
  have hc1788 : (gN_ σ1081 164) < gN_ σ1756 164 := by rw [e1757]; exact hc1746
  have hc1789 : (gN_ σ1148 165) < gN_ σ1756 165 := by rw [e1757]; exact hc1747
  have hc1790 : (gN_ σ1217 166) < gN_ σ1756 166 := by rw [e1757]; exact hc1748
  have hc1791 : (gN_ σ1288 171) < gN_ σ1756 171 := by rw [e1757]; exact hc1749
  have hc1792 : (gN_ σ1361 175) < gN_ σ1756 175 := by rw [e1757]; exact hc1750
  have hc1793 : (gN_ σ1436 176) < gN_ σ1756 176 := by rw [e1757]; exact hc1751
  have hc1794 : (gN_ σ1513 177) < gN_ σ1756 177 := by rw [e1757]; exact hc1752
  have hc1795 : (gN_ σ1592 178) < gN_ σ1756 178 := by rw [e1757]; exact hc1753
  have hc1796 : (gN_ σ1673 179) < gN_ σ1756 179 := by rw [e1757]; exact hc1754
  refine lv_aload_n hx hb dX10_init_311 rfl (lv_at hl 0 rfl) ?_
  refine lv_iconst (v := 3) hx hb dX10_init_312 (by decide) ?_
  have hp1797 : pr σ1756 109 0 := (pr_dy hc1758 rfl rfl)
  obtain ⟨σ1798, e1799, hs⟩ := ww_let hs
  obtain ⟨hs, hck⟩ := ww_ck1 hs
  have hrm1 := hcs.room (σ1 := σ1798) (a := 1) (b := 3) (by rw [e1799]; rfl) (by rw [e1799]; rfl) hck
  refine ww_newa (atype := .int) hx hb (hts _ q201) hW 182 0 3 (Or.inl rfl) sole_182 (Or.inr hgm) rfl rfl rfl (by decide) rfl (Nat.le_of_ble_eq_true rfl) hrm1.1 hrm1.2 dX10_init_313 (fun H L hx1 hW => ?_)
  rw [← e1799] at hx1 hW
  have hcs := hcs.more (σ1 := σ1798) (a := 1) (b := 3) (by rw [e1799]; rfl) (by rw [e1799]; rfl)
  have hrm := hrm1
  have hc1800 : 0 < gN_ σ1798 109 := Nat.lt_of_lt_of_le hc1758 (hx1.2.1 109)
  have hc1801 : (gN_ σ 112) < gN_ σ1798 112 := Nat.lt_of_lt_of_le hc1759 (hx1.2.1 112)
  have hc1802 : (gN_ σ17 113) < gN_ σ1798 113 := Nat.lt_of_lt_of_le hc1760 (hx1.2.1 113)
  have hc1803 : (gN_ σ28 114) < gN_ σ1798 114 := Nat.lt_of_lt_of_le hc1761 (hx1.2.1 114)
  have hc1804 : (gN_ σ41 115) < gN_ σ1798 115 := Nat.lt_of_lt_of_le hc1762 (hx1.2.1 115)
  have hc1805 : (gN_ σ56 116) < gN_ σ1798 116 := Nat.lt_of_lt_of_le hc1763 (hx1.2.1 116)
  have hc1806 : (gN_ σ73 117) < gN_ σ1798 117 := Nat.lt_of_lt_of_le hc1764 (hx1.2.1 117)
  have hc1807 : (gN_ σ92 118) < gN_ σ1798 118 := Nat.lt_of_lt_of_le hc1765 (hx1.2.1 118)
  have hc1808 : (gN_ σ113 119) < gN_ σ1798 119 := Nat.lt_of_lt_of_le hc1766 (hx1.2.1 119)
  have hc1809 : (gN_ σ136 127) < gN_ σ1798 127 := Nat.lt_of_lt_of_le hc1767 (hx1.2.1 127)
  have hc1810 : (gN_ σ161 128) < gN_ σ1798 128 := Nat.lt_of_lt_of_le hc1768 (hx1.2.1 128)
  have hc1811 : (gN_ σ188 129) < gN_ σ1798 129 := Nat.lt_of_lt_of_le hc1769 (hx1.2.1 129)
  have hc1812 : (gN_ σ217 130) < gN_ σ1798 130 := Nat.lt_of_lt_of_le hc1770 (hx1.2.1 130)
  have hc1813 : (gN_ σ248 131) < gN_ σ1798 131 := Nat.lt_of_lt_of_le hc1771 (hx1.2.1 131)
  have hc1814 : (gN_ σ281 137) < gN_ σ1798 137 := Nat.lt_of_lt_of_le hc1772 (hx1.2.1 137)
  have hc1815 : (gN_ σ316 138) < gN_ σ1798 138 := Nat.lt_of_lt_of_le hc1773 (hx1.2.1 138)
  have hc1816 : (gN_ σ353 145) < gN_ σ1798 145 := Nat.lt_of_lt_of_le hc1774 (hx1.2.1 145)
  have hc1817 : (gN_ σ392 146) < gN_ σ1798 146 := Nat.lt_of_lt_of_le hc1775 (hx1.2.1 146)
  have hc1818 : (gN_ σ433 147) < gN_ σ1798 147 := Nat.lt_of_lt_of_le hc1776 (hx1.2.1 147)
  have hc1819 : (gN_ σ476 148) < gN_ σ1798 148 := Nat.lt_of_lt_of_le hc1777 (hx1.2.1 148)
  have hc1820 : (gN_ σ521 150) < gN_ σ1798 150 := Nat.lt_of_lt_of_le hc1778 (hx1.2.1 150)
  have hc1821 : (gN_ σ568 151) < gN_ σ1798 151 := Nat.lt_of_lt_of_le hc1779 (hx1.2.1 151)
  have hc1822 : (gN_ σ617 152) < gN_ σ1798 152 := Nat.lt_of_lt_of_le hc1780 (hx1.2.1 152)
  have hc1823 : (gN_ σ668 153) < gN_ σ1798 153 := Nat.lt_of_lt_of_le hc1781 (hx1.2.1 153)
  have hc1824 : (gN_ σ721 154) < gN_ σ1798 154 := Nat.lt_of_lt_of_le hc1782 (hx1.2.1 154)
  have hc1825 : (gN_ σ776 155) < gN_ σ1798 155 := Nat.lt_of_lt_of_le hc1783 (hx1.2.1 155)
  have hc1826 : (gN_ σ833 156) < gN_ σ1798 156 := Nat.lt_of_lt_of_le hc1784 (hx1.2.1 156)
  have hc1827 : (gN_ σ892 157) < gN_ σ1798 157 := Nat.lt_of_lt_of_le hc1785 (hx1.2.1 157)
  have hc1828 : (gN_ σ953 158) < gN_ σ1798 158 := Nat.lt_of_lt_of_le hc1786 (hx1.2.1 158)
  have hc1829 : (gN_ σ1016 163) < gN_ σ1798 163 := Nat.lt_of_lt_of_le hc1787 (hx1.2.1 163)
  have hc1830 : (gN_ σ1081 164) < gN_ σ1798 164 := Nat.lt_of_lt_of_le hc1788 (hx1.2.1 164)
  have hc1831 : (gN_ σ1148 165) < gN_ σ1798 165 := Nat.lt_of_lt_of_le hc1789 (hx1.2.1 165)
  have hc1832 : (gN_ σ1217 166) < gN_ σ1798 166 := Nat.lt_of_lt_of_le hc1790 (hx1.2.1 166)
  have hc1833 : (gN_ σ1288 171) < gN_ σ1798 171 := Nat.lt_of_lt_of_le hc1791 (hx1.2.1 171)
  have hc1834 : (gN_ σ1361 175) < gN_ σ1798 175 := Nat.lt_of_lt_of_le hc1792 (hx1.2.1 175)
  have hc1835 : (gN_ σ1436 176) < gN_ σ1798 176 := Nat.lt_of_lt_of_le hc1793 (hx1.2.1 176)
  have hc1836 : (gN_ σ1513 177) < gN_ σ1798 177 := Nat.lt_of_lt_of_le hc1794 (hx1.2.1 177)
  have hc1837 : (gN_ σ1592 178) < gN_ σ1798 178 := Nat.lt_of_lt_of_le hc1795 (hx1.2.1 178)
  have hc1838 : (gN_ σ1673 179) < gN_ σ1798 179 := Nat.lt_of_lt_of_le hc1796 (hx1.2.1 179)
  have hc1839 : gN_ σ1756 182 < gN_ σ1798 182 := by rw [e1799]; exact nA_lt rfl
  rw [show ow_ 182 = 182 from rfl]
  have hl : lv_has ls 2 [(0, .ref (L 109 0))] := by rw [hx1.at hp1797 (by decide)]; exact hl
  refine ww_stk (st1 := [.ref (L 182 (gN_ σ1756 182)), .ref (L 109 0)]) (by rw [hx1.at hp1797 (by decide)]) ?_
  have hx0 := hx0.trans hx1
  obtain ⟨hc1840, hs⟩ := ww_chk hs
  have hpq : pr σ1798 182 (gN_ σ1756 182) := (pr_dy hc1839 rfl rfl)
  rw [hc1840] at hpq
  obtain ⟨σ1841, e1842, hs⟩ := ww_let hs
  refine ww_markF (d := (1, 182, 0)) hx hb hts hown (hnm.trans rfl) hW 109 0 72 0 (pr_dy hc1800 rfl rfl) (tgd_1 hpq) (obv_0 rfl) rfl (by decide) (Nat.le_of_ble_eq_true rfl) in_X10 tyX10_ok nmX10 rfl (Nat.le_of_ble_eq_true rfl) (hts _ q1765) (fun _ h => h) rfl rfl rfl (fun _ => rfl) (fun _ => rfl) (by rw [hc1840]; rfl) dX10_init_315 (fun H locs hW => ?_)
  have hW : wv g L σ1841 s H locs := by rw [e1842]; exact hW
  obtain ⟨hx0, hcs⟩ := lx_s (σ1 := σ1841) hx0 hcs (by rw [e1842]; exact (kp_M (by decide)))
  have hc1843 : 0 < gN_ σ1841 109 := by rw [e1842]; exact hc1800
  have hc1844 : (gN_ σ 112) < gN_ σ1841 112 := by rw [e1842]; exact hc1801
  have hc1845 : (gN_ σ17 113) < gN_ σ1841 113 := by rw [e1842]; exact hc1802
  have hc1846 : (gN_ σ28 114) < gN_ σ1841 114 := by rw [e1842]; exact hc1803
  have hc1847 : (gN_ σ41 115) < gN_ σ1841 115 := by rw [e1842]; exact hc1804
  have hc1848 : (gN_ σ56 116) < gN_ σ1841 116 := by rw [e1842]; exact hc1805
  have hc1849 : (gN_ σ73 117) < gN_ σ1841 117 := by rw [e1842]; exact hc1806
  have hc1850 : (gN_ σ92 118) < gN_ σ1841 118 := by rw [e1842]; exact hc1807
  have hc1851 : (gN_ σ113 119) < gN_ σ1841 119 := by rw [e1842]; exact hc1808
  have hc1852 : (gN_ σ136 127) < gN_ σ1841 127 := by rw [e1842]; exact hc1809
  have hc1853 : (gN_ σ161 128) < gN_ σ1841 128 := by rw [e1842]; exact hc1810
  have hc1854 : (gN_ σ188 129) < gN_ σ1841 129 := by rw [e1842]; exact hc1811
  have hc1855 : (gN_ σ217 130) < gN_ σ1841 130 := by rw [e1842]; exact hc1812
  have hc1856 : (gN_ σ248 131) < gN_ σ1841 131 := by rw [e1842]; exact hc1813
  have hc1857 : (gN_ σ281 137) < gN_ σ1841 137 := by rw [e1842]; exact hc1814
  have hc1858 : (gN_ σ316 138) < gN_ σ1841 138 := by rw [e1842]; exact hc1815
  have hc1859 : (gN_ σ353 145) < gN_ σ1841 145 := by rw [e1842]; exact hc1816
  have hc1860 : (gN_ σ392 146) < gN_ σ1841 146 := by rw [e1842]; exact hc1817
  have hc1861 : (gN_ σ433 147) < gN_ σ1841 147 := by rw [e1842]; exact hc1818
  have hc1862 : (gN_ σ476 148) < gN_ σ1841 148 := by rw [e1842]; exact hc1819
  have hc1863 : (gN_ σ521 150) < gN_ σ1841 150 := by rw [e1842]; exact hc1820
  have hc1864 : (gN_ σ568 151) < gN_ σ1841 151 := by rw [e1842]; exact hc1821
  have hc1865 : (gN_ σ617 152) < gN_ σ1841 152 := by rw [e1842]; exact hc1822
  have hc1866 : (gN_ σ668 153) < gN_ σ1841 153 := by rw [e1842]; exact hc1823
  have hc1867 : (gN_ σ721 154) < gN_ σ1841 154 := by rw [e1842]; exact hc1824
  have hc1868 : (gN_ σ776 155) < gN_ σ1841 155 := by rw [e1842]; exact hc1825
  have hc1869 : (gN_ σ833 156) < gN_ σ1841 156 := by rw [e1842]; exact hc1826
  have hc1870 : (gN_ σ892 157) < gN_ σ1841 157 := by rw [e1842]; exact hc1827
  have hc1871 : (gN_ σ953 158) < gN_ σ1841 158 := by rw [e1842]; exact hc1828
  have hc1872 : (gN_ σ1016 163) < gN_ σ1841 163 := by rw [e1842]; exact hc1829
  have hc1873 : (gN_ σ1081 164) < gN_ σ1841 164 := by rw [e1842]; exact hc1830
  have hc1874 : (gN_ σ1148 165) < gN_ σ1841 165 := by rw [e1842]; exact hc1831
  have hc1875 : (gN_ σ1217 166) < gN_ σ1841 166 := by rw [e1842]; exact hc1832
  have hc1876 : (gN_ σ1288 171) < gN_ σ1841 171 := by rw [e1842]; exact hc1833
  have hc1877 : (gN_ σ1361 175) < gN_ σ1841 175 := by rw [e1842]; exact hc1834
  have hc1878 : (gN_ σ1436 176) < gN_ σ1841 176 := by rw [e1842]; exact hc1835
  have hc1879 : (gN_ σ1513 177) < gN_ σ1841 177 := by rw [e1842]; exact hc1836
  have hc1880 : (gN_ σ1592 178) < gN_ σ1841 178 := by rw [e1842]; exact hc1837
  have hc1881 : (gN_ σ1673 179) < gN_ σ1841 179 := by rw [e1842]; exact hc1838
  have hc1882 : (gN_ σ1756 182) < gN_ σ1841 182 := by rw [e1842]; exact hc1839
  refine lv_aload_n hx hb dX10_init_318 rfl (lv_at hl 0 rfl) ?_
  refine lv_sipush (v := 10000) hx hb dX10_init_319 (by decide) ?_
  have hp1883 : pr σ1841 109 0 := (pr_dy hc1843 rfl rfl)
  obtain ⟨σ1884, e1885, hs⟩ := ww_let hs
  obtain ⟨hs, hck⟩ := ww_ck1 hs
  have hrm1 := hcs.room (σ1 := σ1884) (a := 1) (b := 10000) (by rw [e1885]; rfl) (by rw [e1885]; rfl) hck
  refine ww_newa (atype := .boolean) hx hb (hts _ q224) hW 187 2 10000 (Or.inl rfl) sole_187 (Or.inr hgm) rfl rfl rfl (by decide) rfl (Nat.le_of_ble_eq_true rfl) hrm1.1 hrm1.2 dX10_init_322 (fun H L hx1 hW => ?_)
  rw [← e1885] at hx1 hW
  have hcs := hcs.more (σ1 := σ1884) (a := 1) (b := 10000) (by rw [e1885]; rfl) (by rw [e1885]; rfl)
  have hrm := hrm1
  have hc1886 : 0 < gN_ σ1884 109 := Nat.lt_of_lt_of_le hc1843 (hx1.2.1 109)
  have hc1887 : (gN_ σ 112) < gN_ σ1884 112 := Nat.lt_of_lt_of_le hc1844 (hx1.2.1 112)
  have hc1888 : (gN_ σ17 113) < gN_ σ1884 113 := Nat.lt_of_lt_of_le hc1845 (hx1.2.1 113)
  have hc1889 : (gN_ σ28 114) < gN_ σ1884 114 := Nat.lt_of_lt_of_le hc1846 (hx1.2.1 114)
  have hc1890 : (gN_ σ41 115) < gN_ σ1884 115 := Nat.lt_of_lt_of_le hc1847 (hx1.2.1 115)
  have hc1891 : (gN_ σ56 116) < gN_ σ1884 116 := Nat.lt_of_lt_of_le hc1848 (hx1.2.1 116)
  have hc1892 : (gN_ σ73 117) < gN_ σ1884 117 := Nat.lt_of_lt_of_le hc1849 (hx1.2.1 117)
  have hc1893 : (gN_ σ92 118) < gN_ σ1884 118 := Nat.lt_of_lt_of_le hc1850 (hx1.2.1 118)
  have hc1894 : (gN_ σ113 119) < gN_ σ1884 119 := Nat.lt_of_lt_of_le hc1851 (hx1.2.1 119)
  have hc1895 : (gN_ σ136 127) < gN_ σ1884 127 := Nat.lt_of_lt_of_le hc1852 (hx1.2.1 127)
  have hc1896 : (gN_ σ161 128) < gN_ σ1884 128 := Nat.lt_of_lt_of_le hc1853 (hx1.2.1 128)
  have hc1897 : (gN_ σ188 129) < gN_ σ1884 129 := Nat.lt_of_lt_of_le hc1854 (hx1.2.1 129)
  have hc1898 : (gN_ σ217 130) < gN_ σ1884 130 := Nat.lt_of_lt_of_le hc1855 (hx1.2.1 130)
  have hc1899 : (gN_ σ248 131) < gN_ σ1884 131 := Nat.lt_of_lt_of_le hc1856 (hx1.2.1 131)
  have hc1900 : (gN_ σ281 137) < gN_ σ1884 137 := Nat.lt_of_lt_of_le hc1857 (hx1.2.1 137)
  have hc1901 : (gN_ σ316 138) < gN_ σ1884 138 := Nat.lt_of_lt_of_le hc1858 (hx1.2.1 138)
  have hc1902 : (gN_ σ353 145) < gN_ σ1884 145 := Nat.lt_of_lt_of_le hc1859 (hx1.2.1 145)
  have hc1903 : (gN_ σ392 146) < gN_ σ1884 146 := Nat.lt_of_lt_of_le hc1860 (hx1.2.1 146)
  have hc1904 : (gN_ σ433 147) < gN_ σ1884 147 := Nat.lt_of_lt_of_le hc1861 (hx1.2.1 147)
  have hc1905 : (gN_ σ476 148) < gN_ σ1884 148 := Nat.lt_of_lt_of_le hc1862 (hx1.2.1 148)
  have hc1906 : (gN_ σ521 150) < gN_ σ1884 150 := Nat.lt_of_lt_of_le hc1863 (hx1.2.1 150)
  have hc1907 : (gN_ σ568 151) < gN_ σ1884 151 := Nat.lt_of_lt_of_le hc1864 (hx1.2.1 151)
  have hc1908 : (gN_ σ617 152) < gN_ σ1884 152 := Nat.lt_of_lt_of_le hc1865 (hx1.2.1 152)
  have hc1909 : (gN_ σ668 153) < gN_ σ1884 153 := Nat.lt_of_lt_of_le hc1866 (hx1.2.1 153)
  have hc1910 : (gN_ σ721 154) < gN_ σ1884 154 := Nat.lt_of_lt_of_le hc1867 (hx1.2.1 154)
  have hc1911 : (gN_ σ776 155) < gN_ σ1884 155 := Nat.lt_of_lt_of_le hc1868 (hx1.2.1 155)
  have hc1912 : (gN_ σ833 156) < gN_ σ1884 156 := Nat.lt_of_lt_of_le hc1869 (hx1.2.1 156)
  have hc1913 : (gN_ σ892 157) < gN_ σ1884 157 := Nat.lt_of_lt_of_le hc1870 (hx1.2.1 157)
  have hc1914 : (gN_ σ953 158) < gN_ σ1884 158 := Nat.lt_of_lt_of_le hc1871 (hx1.2.1 158)
  have hc1915 : (gN_ σ1016 163) < gN_ σ1884 163 := Nat.lt_of_lt_of_le hc1872 (hx1.2.1 163)
  have hc1916 : (gN_ σ1081 164) < gN_ σ1884 164 := Nat.lt_of_lt_of_le hc1873 (hx1.2.1 164)
  have hc1917 : (gN_ σ1148 165) < gN_ σ1884 165 := Nat.lt_of_lt_of_le hc1874 (hx1.2.1 165)
  have hc1918 : (gN_ σ1217 166) < gN_ σ1884 166 := Nat.lt_of_lt_of_le hc1875 (hx1.2.1 166)
  have hc1919 : (gN_ σ1288 171) < gN_ σ1884 171 := Nat.lt_of_lt_of_le hc1876 (hx1.2.1 171)
  have hc1920 : (gN_ σ1361 175) < gN_ σ1884 175 := Nat.lt_of_lt_of_le hc1877 (hx1.2.1 175)
  have hc1921 : (gN_ σ1436 176) < gN_ σ1884 176 := Nat.lt_of_lt_of_le hc1878 (hx1.2.1 176)
  have hc1922 : (gN_ σ1513 177) < gN_ σ1884 177 := Nat.lt_of_lt_of_le hc1879 (hx1.2.1 177)
  have hc1923 : (gN_ σ1592 178) < gN_ σ1884 178 := Nat.lt_of_lt_of_le hc1880 (hx1.2.1 178)
  have hc1924 : (gN_ σ1673 179) < gN_ σ1884 179 := Nat.lt_of_lt_of_le hc1881 (hx1.2.1 179)
  have hc1925 : (gN_ σ1756 182) < gN_ σ1884 182 := Nat.lt_of_lt_of_le hc1882 (hx1.2.1 182)
  have hc1926 : gN_ σ1841 187 < gN_ σ1884 187 := by rw [e1885]; exact nA_lt rfl
  rw [show ow_ 187 = 187 from rfl]
  have hl : lv_has ls 2 [(0, .ref (L 109 0))] := by rw [hx1.at hp1883 (by decide)]; exact hl
  refine ww_stk (st1 := [.ref (L 187 (gN_ σ1841 187)), .ref (L 109 0)]) (by rw [hx1.at hp1883 (by decide)]) ?_
  have hx0 := hx0.trans hx1
  obtain ⟨hc1927, hs⟩ := ww_chk hs
  have hpq : pr σ1884 187 (gN_ σ1841 187) := (pr_dy hc1926 rfl rfl)
  rw [hc1927] at hpq
  obtain ⟨σ1928, e1929, hs⟩ := ww_let hs
  refine ww_markF (d := (1, 187, 0)) hx hb hts hown (hnm.trans rfl) hW 109 0 77 0 (pr_dy hc1886 rfl rfl) (tgd_1 hpq) (obv_0 rfl) rfl (by decide) (Nat.le_of_ble_eq_true rfl) in_X10 tyX10_ok nmX10 rfl (Nat.le_of_ble_eq_true rfl) (hts _ q1770) (fun _ h => h) rfl rfl rfl (fun _ => rfl) (fun _ => rfl) (by rw [hc1927]; rfl) dX10_init_324 (fun H locs hW => ?_)
  have hW : wv g L σ1928 s H locs := by rw [e1929]; exact hW
  obtain ⟨hx0, hcs⟩ := lx_s (σ1 := σ1928) hx0 hcs (by rw [e1929]; exact (kp_M (by decide)))
  have hc1930 : 0 < gN_ σ1928 109 := by rw [e1929]; exact hc1886
  have hc1931 : (gN_ σ 112) < gN_ σ1928 112 := by rw [e1929]; exact hc1887
  have hc1932 : (gN_ σ17 113) < gN_ σ1928 113 := by rw [e1929]; exact hc1888
  have hc1933 : (gN_ σ28 114) < gN_ σ1928 114 := by rw [e1929]; exact hc1889
  have hc1934 : (gN_ σ41 115) < gN_ σ1928 115 := by rw [e1929]; exact hc1890
  have hc1935 : (gN_ σ56 116) < gN_ σ1928 116 := by rw [e1929]; exact hc1891
  have hc1936 : (gN_ σ73 117) < gN_ σ1928 117 := by rw [e1929]; exact hc1892
  have hc1937 : (gN_ σ92 118) < gN_ σ1928 118 := by rw [e1929]; exact hc1893
  have hc1938 : (gN_ σ113 119) < gN_ σ1928 119 := by rw [e1929]; exact hc1894
  have hc1939 : (gN_ σ136 127) < gN_ σ1928 127 := by rw [e1929]; exact hc1895
  have hc1940 : (gN_ σ161 128) < gN_ σ1928 128 := by rw [e1929]; exact hc1896
  have hc1941 : (gN_ σ188 129) < gN_ σ1928 129 := by rw [e1929]; exact hc1897
  have hc1942 : (gN_ σ217 130) < gN_ σ1928 130 := by rw [e1929]; exact hc1898
  have hc1943 : (gN_ σ248 131) < gN_ σ1928 131 := by rw [e1929]; exact hc1899
  have hc1944 : (gN_ σ281 137) < gN_ σ1928 137 := by rw [e1929]; exact hc1900
  have hc1945 : (gN_ σ316 138) < gN_ σ1928 138 := by rw [e1929]; exact hc1901
  have hc1946 : (gN_ σ353 145) < gN_ σ1928 145 := by rw [e1929]; exact hc1902
  have hc1947 : (gN_ σ392 146) < gN_ σ1928 146 := by rw [e1929]; exact hc1903
  have hc1948 : (gN_ σ433 147) < gN_ σ1928 147 := by rw [e1929]; exact hc1904
  have hc1949 : (gN_ σ476 148) < gN_ σ1928 148 := by rw [e1929]; exact hc1905
  have hc1950 : (gN_ σ521 150) < gN_ σ1928 150 := by rw [e1929]; exact hc1906
  have hc1951 : (gN_ σ568 151) < gN_ σ1928 151 := by rw [e1929]; exact hc1907
  have hc1952 : (gN_ σ617 152) < gN_ σ1928 152 := by rw [e1929]; exact hc1908
  have hc1953 : (gN_ σ668 153) < gN_ σ1928 153 := by rw [e1929]; exact hc1909
  have hc1954 : (gN_ σ721 154) < gN_ σ1928 154 := by rw [e1929]; exact hc1910
  have hc1955 : (gN_ σ776 155) < gN_ σ1928 155 := by rw [e1929]; exact hc1911
  have hc1956 : (gN_ σ833 156) < gN_ σ1928 156 := by rw [e1929]; exact hc1912
  have hc1957 : (gN_ σ892 157) < gN_ σ1928 157 := by rw [e1929]; exact hc1913
  have hc1958 : (gN_ σ953 158) < gN_ σ1928 158 := by rw [e1929]; exact hc1914
  have hc1959 : (gN_ σ1016 163) < gN_ σ1928 163 := by rw [e1929]; exact hc1915
  have hc1960 : (gN_ σ1081 164) < gN_ σ1928 164 := by rw [e1929]; exact hc1916
  have hc1961 : (gN_ σ1148 165) < gN_ σ1928 165 := by rw [e1929]; exact hc1917
  have hc1962 : (gN_ σ1217 166) < gN_ σ1928 166 := by rw [e1929]; exact hc1918
  have hc1963 : (gN_ σ1288 171) < gN_ σ1928 171 := by rw [e1929]; exact hc1919
  have hc1964 : (gN_ σ1361 175) < gN_ σ1928 175 := by rw [e1929]; exact hc1920
  have hc1965 : (gN_ σ1436 176) < gN_ σ1928 176 := by rw [e1929]; exact hc1921
  have hc1966 : (gN_ σ1513 177) < gN_ σ1928 177 := by rw [e1929]; exact hc1922
  have hc1967 : (gN_ σ1592 178) < gN_ σ1928 178 := by rw [e1929]; exact hc1923
  have hc1968 : (gN_ σ1673 179) < gN_ σ1928 179 := by rw [e1929]; exact hc1924
  have hc1969 : (gN_ σ1756 182) < gN_ σ1928 182 := by rw [e1929]; exact hc1925
  have hc1970 : (gN_ σ1841 187) < gN_ σ1928 187 := by rw [e1929]; exact hc1926
  refine lv_aload_n hx hb dX10_init_327 rfl (lv_at hl 0 rfl) ?_
  refine lv_bipush (v := 10) hx hb dX10_init_328 (by decide) ?_
  have hp1971 : pr σ1928 109 0 := (pr_dy hc1930 rfl rfl)
  obtain ⟨σ1972, e1973, hs⟩ := ww_let hs
  obtain ⟨hs, hck⟩ := ww_ck1 hs
  have hrm1 := hcs.room (σ1 := σ1972) (a := 1) (b := 10) (by rw [e1973]; rfl) (by rw [e1973]; rfl) hck
  refine ww_newa (atype := .int) hx hb (hts _ q201) hW 188 0 10 (Or.inl rfl) sole_188 (Or.inr hgm) rfl rfl rfl (by decide) rfl (Nat.le_of_ble_eq_true rfl) hrm1.1 hrm1.2 dX10_init_330 (fun H L hx1 hW => ?_)
  rw [← e1973] at hx1 hW
  have hcs := hcs.more (σ1 := σ1972) (a := 1) (b := 10) (by rw [e1973]; rfl) (by rw [e1973]; rfl)
  have hrm := hrm1
  have hc1974 : 0 < gN_ σ1972 109 := Nat.lt_of_lt_of_le hc1930 (hx1.2.1 109)
  have hc1975 : (gN_ σ 112) < gN_ σ1972 112 := Nat.lt_of_lt_of_le hc1931 (hx1.2.1 112)
  have hc1976 : (gN_ σ17 113) < gN_ σ1972 113 := Nat.lt_of_lt_of_le hc1932 (hx1.2.1 113)
  have hc1977 : (gN_ σ28 114) < gN_ σ1972 114 := Nat.lt_of_lt_of_le hc1933 (hx1.2.1 114)
  have hc1978 : (gN_ σ41 115) < gN_ σ1972 115 := Nat.lt_of_lt_of_le hc1934 (hx1.2.1 115)
  have hc1979 : (gN_ σ56 116) < gN_ σ1972 116 := Nat.lt_of_lt_of_le hc1935 (hx1.2.1 116)
  have hc1980 : (gN_ σ73 117) < gN_ σ1972 117 := Nat.lt_of_lt_of_le hc1936 (hx1.2.1 117)
  have hc1981 : (gN_ σ92 118) < gN_ σ1972 118 := Nat.lt_of_lt_of_le hc1937 (hx1.2.1 118)
  have hc1982 : (gN_ σ113 119) < gN_ σ1972 119 := Nat.lt_of_lt_of_le hc1938 (hx1.2.1 119)
  have hc1983 : (gN_ σ136 127) < gN_ σ1972 127 := Nat.lt_of_lt_of_le hc1939 (hx1.2.1 127)
  have hc1984 : (gN_ σ161 128) < gN_ σ1972 128 := Nat.lt_of_lt_of_le hc1940 (hx1.2.1 128)
  have hc1985 : (gN_ σ188 129) < gN_ σ1972 129 := Nat.lt_of_lt_of_le hc1941 (hx1.2.1 129)
  have hc1986 : (gN_ σ217 130) < gN_ σ1972 130 := Nat.lt_of_lt_of_le hc1942 (hx1.2.1 130)
  have hc1987 : (gN_ σ248 131) < gN_ σ1972 131 := Nat.lt_of_lt_of_le hc1943 (hx1.2.1 131)
  have hc1988 : (gN_ σ281 137) < gN_ σ1972 137 := Nat.lt_of_lt_of_le hc1944 (hx1.2.1 137)
  have hc1989 : (gN_ σ316 138) < gN_ σ1972 138 := Nat.lt_of_lt_of_le hc1945 (hx1.2.1 138)
  have hc1990 : (gN_ σ353 145) < gN_ σ1972 145 := Nat.lt_of_lt_of_le hc1946 (hx1.2.1 145)
  have hc1991 : (gN_ σ392 146) < gN_ σ1972 146 := Nat.lt_of_lt_of_le hc1947 (hx1.2.1 146)
  have hc1992 : (gN_ σ433 147) < gN_ σ1972 147 := Nat.lt_of_lt_of_le hc1948 (hx1.2.1 147)
  have hc1993 : (gN_ σ476 148) < gN_ σ1972 148 := Nat.lt_of_lt_of_le hc1949 (hx1.2.1 148)
  have hc1994 : (gN_ σ521 150) < gN_ σ1972 150 := Nat.lt_of_lt_of_le hc1950 (hx1.2.1 150)
  have hc1995 : (gN_ σ568 151) < gN_ σ1972 151 := Nat.lt_of_lt_of_le hc1951 (hx1.2.1 151)
  have hc1996 : (gN_ σ617 152) < gN_ σ1972 152 := Nat.lt_of_lt_of_le hc1952 (hx1.2.1 152)
  have hc1997 : (gN_ σ668 153) < gN_ σ1972 153 := Nat.lt_of_lt_of_le hc1953 (hx1.2.1 153)
  have hc1998 : (gN_ σ721 154) < gN_ σ1972 154 := Nat.lt_of_lt_of_le hc1954 (hx1.2.1 154)
  have hc1999 : (gN_ σ776 155) < gN_ σ1972 155 := Nat.lt_of_lt_of_le hc1955 (hx1.2.1 155)
  have hc2000 : (gN_ σ833 156) < gN_ σ1972 156 := Nat.lt_of_lt_of_le hc1956 (hx1.2.1 156)
  have hc2001 : (gN_ σ892 157) < gN_ σ1972 157 := Nat.lt_of_lt_of_le hc1957 (hx1.2.1 157)
  have hc2002 : (gN_ σ953 158) < gN_ σ1972 158 := Nat.lt_of_lt_of_le hc1958 (hx1.2.1 158)
  have hc2003 : (gN_ σ1016 163) < gN_ σ1972 163 := Nat.lt_of_lt_of_le hc1959 (hx1.2.1 163)
  have hc2004 : (gN_ σ1081 164) < gN_ σ1972 164 := Nat.lt_of_lt_of_le hc1960 (hx1.2.1 164)
  have hc2005 : (gN_ σ1148 165) < gN_ σ1972 165 := Nat.lt_of_lt_of_le hc1961 (hx1.2.1 165)
  have hc2006 : (gN_ σ1217 166) < gN_ σ1972 166 := Nat.lt_of_lt_of_le hc1962 (hx1.2.1 166)
  have hc2007 : (gN_ σ1288 171) < gN_ σ1972 171 := Nat.lt_of_lt_of_le hc1963 (hx1.2.1 171)
  have hc2008 : (gN_ σ1361 175) < gN_ σ1972 175 := Nat.lt_of_lt_of_le hc1964 (hx1.2.1 175)
  have hc2009 : (gN_ σ1436 176) < gN_ σ1972 176 := Nat.lt_of_lt_of_le hc1965 (hx1.2.1 176)
  have hc2010 : (gN_ σ1513 177) < gN_ σ1972 177 := Nat.lt_of_lt_of_le hc1966 (hx1.2.1 177)
  have hc2011 : (gN_ σ1592 178) < gN_ σ1972 178 := Nat.lt_of_lt_of_le hc1967 (hx1.2.1 178)
  have hc2012 : (gN_ σ1673 179) < gN_ σ1972 179 := Nat.lt_of_lt_of_le hc1968 (hx1.2.1 179)
  have hc2013 : (gN_ σ1756 182) < gN_ σ1972 182 := Nat.lt_of_lt_of_le hc1969 (hx1.2.1 182)
  have hc2014 : (gN_ σ1841 187) < gN_ σ1972 187 := Nat.lt_of_lt_of_le hc1970 (hx1.2.1 187)
  have hc2015 : gN_ σ1928 188 < gN_ σ1972 188 := by rw [e1973]; exact nA_lt rfl
  rw [show ow_ 188 = 188 from rfl]
  have hl : lv_has ls 2 [(0, .ref (L 109 0))] := by rw [hx1.at hp1971 (by decide)]; exact hl
  refine ww_stk (st1 := [.ref (L 188 (gN_ σ1928 188)), .ref (L 109 0)]) (by rw [hx1.at hp1971 (by decide)]) ?_
  have hx0 := hx0.trans hx1
  obtain ⟨hc2016, hs⟩ := ww_chk hs
  have hpq : pr σ1972 188 (gN_ σ1928 188) := (pr_dy hc2015 rfl rfl)
  rw [hc2016] at hpq
  obtain ⟨σ2017, e2018, hs⟩ := ww_let hs
  refine ww_markF (d := (1, 188, 0)) hx hb hts hown (hnm.trans rfl) hW 109 0 78 0 (pr_dy hc1974 rfl rfl) (tgd_1 hpq) (obv_0 rfl) rfl (by decide) (Nat.le_of_ble_eq_true rfl) in_X10 tyX10_ok nmX10 rfl (Nat.le_of_ble_eq_true rfl) (hts _ q1771) (fun _ h => h) rfl rfl rfl (fun _ => rfl) (fun _ => rfl) (by rw [hc2016]; rfl) dX10_init_332 (fun H locs hW => ?_)
  have hW : wv g L σ2017 s H locs := by rw [e2018]; exact hW
  obtain ⟨hx0, hcs⟩ := lx_s (σ1 := σ2017) hx0 hcs (by rw [e2018]; exact (kp_M (by decide)))
  have hc2019 : 0 < gN_ σ2017 109 := by rw [e2018]; exact hc1974
  have hc2020 : (gN_ σ 112) < gN_ σ2017 112 := by rw [e2018]; exact hc1975
  have hc2021 : (gN_ σ17 113) < gN_ σ2017 113 := by rw [e2018]; exact hc1976
  have hc2022 : (gN_ σ28 114) < gN_ σ2017 114 := by rw [e2018]; exact hc1977
  have hc2023 : (gN_ σ41 115) < gN_ σ2017 115 := by rw [e2018]; exact hc1978
  have hc2024 : (gN_ σ56 116) < gN_ σ2017 116 := by rw [e2018]; exact hc1979
  have hc2025 : (gN_ σ73 117) < gN_ σ2017 117 := by rw [e2018]; exact hc1980
  have hc2026 : (gN_ σ92 118) < gN_ σ2017 118 := by rw [e2018]; exact hc1981
  have hc2027 : (gN_ σ113 119) < gN_ σ2017 119 := by rw [e2018]; exact hc1982
  have hc2028 : (gN_ σ136 127) < gN_ σ2017 127 := by rw [e2018]; exact hc1983
  have hc2029 : (gN_ σ161 128) < gN_ σ2017 128 := by rw [e2018]; exact hc1984
  have hc2030 : (gN_ σ188 129) < gN_ σ2017 129 := by rw [e2018]; exact hc1985
  have hc2031 : (gN_ σ217 130) < gN_ σ2017 130 := by rw [e2018]; exact hc1986
  have hc2032 : (gN_ σ248 131) < gN_ σ2017 131 := by rw [e2018]; exact hc1987
  have hc2033 : (gN_ σ281 137) < gN_ σ2017 137 := by rw [e2018]; exact hc1988
  have hc2034 : (gN_ σ316 138) < gN_ σ2017 138 := by rw [e2018]; exact hc1989
  have hc2035 : (gN_ σ353 145) < gN_ σ2017 145 := by rw [e2018]; exact hc1990
  have hc2036 : (gN_ σ392 146) < gN_ σ2017 146 := by rw [e2018]; exact hc1991
  have hc2037 : (gN_ σ433 147) < gN_ σ2017 147 := by rw [e2018]; exact hc1992
  have hc2038 : (gN_ σ476 148) < gN_ σ2017 148 := by rw [e2018]; exact hc1993
  have hc2039 : (gN_ σ521 150) < gN_ σ2017 150 := by rw [e2018]; exact hc1994
  have hc2040 : (gN_ σ568 151) < gN_ σ2017 151 := by rw [e2018]; exact hc1995
  have hc2041 : (gN_ σ617 152) < gN_ σ2017 152 := by rw [e2018]; exact hc1996
  have hc2042 : (gN_ σ668 153) < gN_ σ2017 153 := by rw [e2018]; exact hc1997
  have hc2043 : (gN_ σ721 154) < gN_ σ2017 154 := by rw [e2018]; exact hc1998
  have hc2044 : (gN_ σ776 155) < gN_ σ2017 155 := by rw [e2018]; exact hc1999
  have hc2045 : (gN_ σ833 156) < gN_ σ2017 156 := by rw [e2018]; exact hc2000
  have hc2046 : (gN_ σ892 157) < gN_ σ2017 157 := by rw [e2018]; exact hc2001
  have hc2047 : (gN_ σ953 158) < gN_ σ2017 158 := by rw [e2018]; exact hc2002
  have hc2048 : (gN_ σ1016 163) < gN_ σ2017 163 := by rw [e2018]; exact hc2003
  have hc2049 : (gN_ σ1081 164) < gN_ σ2017 164 := by rw [e2018]; exact hc2004
  have hc2050 : (gN_ σ1148 165) < gN_ σ2017 165 := by rw [e2018]; exact hc2005
  have hc2051 : (gN_ σ1217 166) < gN_ σ2017 166 := by rw [e2018]; exact hc2006
  have hc2052 : (gN_ σ1288 171) < gN_ σ2017 171 := by rw [e2018]; exact hc2007
  have hc2053 : (gN_ σ1361 175) < gN_ σ2017 175 := by rw [e2018]; exact hc2008
  have hc2054 : (gN_ σ1436 176) < gN_ σ2017 176 := by rw [e2018]; exact hc2009
  have hc2055 : (gN_ σ1513 177) < gN_ σ2017 177 := by rw [e2018]; exact hc2010
  have hc2056 : (gN_ σ1592 178) < gN_ σ2017 178 := by rw [e2018]; exact hc2011
  have hc2057 : (gN_ σ1673 179) < gN_ σ2017 179 := by rw [e2018]; exact hc2012
  have hc2058 : (gN_ σ1756 182) < gN_ σ2017 182 := by rw [e2018]; exact hc2013
  have hc2059 : (gN_ σ1841 187) < gN_ σ2017 187 := by rw [e2018]; exact hc2014
  have hc2060 : (gN_ σ1928 188) < gN_ σ2017 188 := by rw [e2018]; exact hc2015
  refine lv_aload_n hx hb dX10_init_335 rfl (lv_at hl 0 rfl) ?_
  refine lv_bipush (v := 6) hx hb dX10_init_336 (by decide) ?_
  have hp2061 : pr σ2017 109 0 := (pr_dy hc2019 rfl rfl)
  obtain ⟨σ2062, e2063, hs⟩ := ww_let hs
  obtain ⟨hs, hck⟩ := ww_ck1 hs
  have hrm1 := hcs.room (σ1 := σ2062) (a := 1) (b := 6) (by rw [e2063]; rfl) (by rw [e2063]; rfl) hck
  refine ww_newa (atype := .int) hx hb (hts _ q201) hW 189 0 6 (Or.inl rfl) sole_189 (Or.inr hgm) rfl rfl rfl (by decide) rfl (Nat.le_of_ble_eq_true rfl) hrm1.1 hrm1.2 dX10_init_338 (fun H L hx1 hW => ?_)
  rw [← e2063] at hx1 hW
  have hcs := hcs.more (σ1 := σ2062) (a := 1) (b := 6) (by rw [e2063]; rfl) (by rw [e2063]; rfl)
  have hrm := hrm1
  have hc2064 : 0 < gN_ σ2062 109 := Nat.lt_of_lt_of_le hc2019 (hx1.2.1 109)
  have hc2065 : (gN_ σ 112) < gN_ σ2062 112 := Nat.lt_of_lt_of_le hc2020 (hx1.2.1 112)
  have hc2066 : (gN_ σ17 113) < gN_ σ2062 113 := Nat.lt_of_lt_of_le hc2021 (hx1.2.1 113)
  have hc2067 : (gN_ σ28 114) < gN_ σ2062 114 := Nat.lt_of_lt_of_le hc2022 (hx1.2.1 114)
  have hc2068 : (gN_ σ41 115) < gN_ σ2062 115 := Nat.lt_of_lt_of_le hc2023 (hx1.2.1 115)
  have hc2069 : (gN_ σ56 116) < gN_ σ2062 116 := Nat.lt_of_lt_of_le hc2024 (hx1.2.1 116)
  have hc2070 : (gN_ σ73 117) < gN_ σ2062 117 := Nat.lt_of_lt_of_le hc2025 (hx1.2.1 117)
  have hc2071 : (gN_ σ92 118) < gN_ σ2062 118 := Nat.lt_of_lt_of_le hc2026 (hx1.2.1 118)
  have hc2072 : (gN_ σ113 119) < gN_ σ2062 119 := Nat.lt_of_lt_of_le hc2027 (hx1.2.1 119)
  have hc2073 : (gN_ σ136 127) < gN_ σ2062 127 := Nat.lt_of_lt_of_le hc2028 (hx1.2.1 127)
  have hc2074 : (gN_ σ161 128) < gN_ σ2062 128 := Nat.lt_of_lt_of_le hc2029 (hx1.2.1 128)
  have hc2075 : (gN_ σ188 129) < gN_ σ2062 129 := Nat.lt_of_lt_of_le hc2030 (hx1.2.1 129)
  have hc2076 : (gN_ σ217 130) < gN_ σ2062 130 := Nat.lt_of_lt_of_le hc2031 (hx1.2.1 130)
  have hc2077 : (gN_ σ248 131) < gN_ σ2062 131 := Nat.lt_of_lt_of_le hc2032 (hx1.2.1 131)
  have hc2078 : (gN_ σ281 137) < gN_ σ2062 137 := Nat.lt_of_lt_of_le hc2033 (hx1.2.1 137)
  have hc2079 : (gN_ σ316 138) < gN_ σ2062 138 := Nat.lt_of_lt_of_le hc2034 (hx1.2.1 138)
  have hc2080 : (gN_ σ353 145) < gN_ σ2062 145 := Nat.lt_of_lt_of_le hc2035 (hx1.2.1 145)
  have hc2081 : (gN_ σ392 146) < gN_ σ2062 146 := Nat.lt_of_lt_of_le hc2036 (hx1.2.1 146)
  have hc2082 : (gN_ σ433 147) < gN_ σ2062 147 := Nat.lt_of_lt_of_le hc2037 (hx1.2.1 147)
  have hc2083 : (gN_ σ476 148) < gN_ σ2062 148 := Nat.lt_of_lt_of_le hc2038 (hx1.2.1 148)
  have hc2084 : (gN_ σ521 150) < gN_ σ2062 150 := Nat.lt_of_lt_of_le hc2039 (hx1.2.1 150)
  have hc2085 : (gN_ σ568 151) < gN_ σ2062 151 := Nat.lt_of_lt_of_le hc2040 (hx1.2.1 151)
  have hc2086 : (gN_ σ617 152) < gN_ σ2062 152 := Nat.lt_of_lt_of_le hc2041 (hx1.2.1 152)
  have hc2087 : (gN_ σ668 153) < gN_ σ2062 153 := Nat.lt_of_lt_of_le hc2042 (hx1.2.1 153)
  have hc2088 : (gN_ σ721 154) < gN_ σ2062 154 := Nat.lt_of_lt_of_le hc2043 (hx1.2.1 154)
  have hc2089 : (gN_ σ776 155) < gN_ σ2062 155 := Nat.lt_of_lt_of_le hc2044 (hx1.2.1 155)
  have hc2090 : (gN_ σ833 156) < gN_ σ2062 156 := Nat.lt_of_lt_of_le hc2045 (hx1.2.1 156)
  have hc2091 : (gN_ σ892 157) < gN_ σ2062 157 := Nat.lt_of_lt_of_le hc2046 (hx1.2.1 157)
  have hc2092 : (gN_ σ953 158) < gN_ σ2062 158 := Nat.lt_of_lt_of_le hc2047 (hx1.2.1 158)
  have hc2093 : (gN_ σ1016 163) < gN_ σ2062 163 := Nat.lt_of_lt_of_le hc2048 (hx1.2.1 163)
  have hc2094 : (gN_ σ1081 164) < gN_ σ2062 164 := Nat.lt_of_lt_of_le hc2049 (hx1.2.1 164)
  have hc2095 : (gN_ σ1148 165) < gN_ σ2062 165 := Nat.lt_of_lt_of_le hc2050 (hx1.2.1 165)
  have hc2096 : (gN_ σ1217 166) < gN_ σ2062 166 := Nat.lt_of_lt_of_le hc2051 (hx1.2.1 166)
  have hc2097 : (gN_ σ1288 171) < gN_ σ2062 171 := Nat.lt_of_lt_of_le hc2052 (hx1.2.1 171)
  have hc2098 : (gN_ σ1361 175) < gN_ σ2062 175 := Nat.lt_of_lt_of_le hc2053 (hx1.2.1 175)
  have hc2099 : (gN_ σ1436 176) < gN_ σ2062 176 := Nat.lt_of_lt_of_le hc2054 (hx1.2.1 176)
  have hc2100 : (gN_ σ1513 177) < gN_ σ2062 177 := Nat.lt_of_lt_of_le hc2055 (hx1.2.1 177)
  have hc2101 : (gN_ σ1592 178) < gN_ σ2062 178 := Nat.lt_of_lt_of_le hc2056 (hx1.2.1 178)
  have hc2102 : (gN_ σ1673 179) < gN_ σ2062 179 := Nat.lt_of_lt_of_le hc2057 (hx1.2.1 179)
  have hc2103 : (gN_ σ1756 182) < gN_ σ2062 182 := Nat.lt_of_lt_of_le hc2058 (hx1.2.1 182)
  have hc2104 : (gN_ σ1841 187) < gN_ σ2062 187 := Nat.lt_of_lt_of_le hc2059 (hx1.2.1 187)
  have hc2105 : (gN_ σ1928 188) < gN_ σ2062 188 := Nat.lt_of_lt_of_le hc2060 (hx1.2.1 188)
  have hc2106 : gN_ σ2017 189 < gN_ σ2062 189 := by rw [e2063]; exact nA_lt rfl
  rw [show ow_ 189 = 189 from rfl]
  have hl : lv_has ls 2 [(0, .ref (L 109 0))] := by rw [hx1.at hp2061 (by decide)]; exact hl
  refine ww_stk (st1 := [.ref (L 189 (gN_ σ2017 189)), .ref (L 109 0)]) (by rw [hx1.at hp2061 (by decide)]) ?_
  have hx0 := hx0.trans hx1
  obtain ⟨hc2107, hs⟩ := ww_chk hs
  have hpq : pr σ2062 189 (gN_ σ2017 189) := (pr_dy hc2106 rfl rfl)
  rw [hc2107] at hpq
  obtain ⟨σ2108, e2109, hs⟩ := ww_let hs
  refine ww_markF (d := (1, 189, 0)) hx hb hts hown (hnm.trans rfl) hW 109 0 79 0 (pr_dy hc2064 rfl rfl) (tgd_1 hpq) (obv_0 rfl) rfl (by decide) (Nat.le_of_ble_eq_true rfl) in_X10 tyX10_ok nmX10 rfl (Nat.le_of_ble_eq_true rfl) (hts _ q1772) (fun _ h => h) rfl rfl rfl (fun _ => rfl) (fun _ => rfl) (by rw [hc2107]; rfl) dX10_init_340 (fun H locs hW => ?_)
  have hW : wv g L σ2108 s H locs := by rw [e2109]; exact hW
  obtain ⟨hx0, hcs⟩ := lx_s (σ1 := σ2108) hx0 hcs (by rw [e2109]; exact (kp_M (by decide)))
  have hc2110 : 0 < gN_ σ2108 109 := by rw [e2109]; exact hc2064
  have hc2111 : (gN_ σ 112) < gN_ σ2108 112 := by rw [e2109]; exact hc2065
  have hc2112 : (gN_ σ17 113) < gN_ σ2108 113 := by rw [e2109]; exact hc2066
  have hc2113 : (gN_ σ28 114) < gN_ σ2108 114 := by rw [e2109]; exact hc2067
  have hc2114 : (gN_ σ41 115) < gN_ σ2108 115 := by rw [e2109]; exact hc2068
  have hc2115 : (gN_ σ56 116) < gN_ σ2108 116 := by rw [e2109]; exact hc2069
  have hc2116 : (gN_ σ73 117) < gN_ σ2108 117 := by rw [e2109]; exact hc2070
  have hc2117 : (gN_ σ92 118) < gN_ σ2108 118 := by rw [e2109]; exact hc2071
  have hc2118 : (gN_ σ113 119) < gN_ σ2108 119 := by rw [e2109]; exact hc2072
  have hc2119 : (gN_ σ136 127) < gN_ σ2108 127 := by rw [e2109]; exact hc2073
  have hc2120 : (gN_ σ161 128) < gN_ σ2108 128 := by rw [e2109]; exact hc2074
  have hc2121 : (gN_ σ188 129) < gN_ σ2108 129 := by rw [e2109]; exact hc2075
  have hc2122 : (gN_ σ217 130) < gN_ σ2108 130 := by rw [e2109]; exact hc2076
  have hc2123 : (gN_ σ248 131) < gN_ σ2108 131 := by rw [e2109]; exact hc2077
  have hc2124 : (gN_ σ281 137) < gN_ σ2108 137 := by rw [e2109]; exact hc2078
  have hc2125 : (gN_ σ316 138) < gN_ σ2108 138 := by rw [e2109]; exact hc2079
  have hc2126 : (gN_ σ353 145) < gN_ σ2108 145 := by rw [e2109]; exact hc2080
  have hc2127 : (gN_ σ392 146) < gN_ σ2108 146 := by rw [e2109]; exact hc2081
  have hc2128 : (gN_ σ433 147) < gN_ σ2108 147 := by rw [e2109]; exact hc2082
  have hc2129 : (gN_ σ476 148) < gN_ σ2108 148 := by rw [e2109]; exact hc2083
  have hc2130 : (gN_ σ521 150) < gN_ σ2108 150 := by rw [e2109]; exact hc2084
  have hc2131 : (gN_ σ568 151) < gN_ σ2108 151 := by rw [e2109]; exact hc2085
  have hc2132 : (gN_ σ617 152) < gN_ σ2108 152 := by rw [e2109]; exact hc2086
  have hc2133 : (gN_ σ668 153) < gN_ σ2108 153 := by rw [e2109]; exact hc2087
  have hc2134 : (gN_ σ721 154) < gN_ σ2108 154 := by rw [e2109]; exact hc2088
  have hc2135 : (gN_ σ776 155) < gN_ σ2108 155 := by rw [e2109]; exact hc2089
  have hc2136 : (gN_ σ833 156) < gN_ σ2108 156 := by rw [e2109]; exact hc2090
  have hc2137 : (gN_ σ892 157) < gN_ σ2108 157 := by rw [e2109]; exact hc2091
  have hc2138 : (gN_ σ953 158) < gN_ σ2108 158 := by rw [e2109]; exact hc2092
  have hc2139 : (gN_ σ1016 163) < gN_ σ2108 163 := by rw [e2109]; exact hc2093
  have hc2140 : (gN_ σ1081 164) < gN_ σ2108 164 := by rw [e2109]; exact hc2094
  have hc2141 : (gN_ σ1148 165) < gN_ σ2108 165 := by rw [e2109]; exact hc2095
  have hc2142 : (gN_ σ1217 166) < gN_ σ2108 166 := by rw [e2109]; exact hc2096
  have hc2143 : (gN_ σ1288 171) < gN_ σ2108 171 := by rw [e2109]; exact hc2097
  have hc2144 : (gN_ σ1361 175) < gN_ σ2108 175 := by rw [e2109]; exact hc2098
  have hc2145 : (gN_ σ1436 176) < gN_ σ2108 176 := by rw [e2109]; exact hc2099
  have hc2146 : (gN_ σ1513 177) < gN_ σ2108 177 := by rw [e2109]; exact hc2100
  have hc2147 : (gN_ σ1592 178) < gN_ σ2108 178 := by rw [e2109]; exact hc2101
  have hc2148 : (gN_ σ1673 179) < gN_ σ2108 179 := by rw [e2109]; exact hc2102
  have hc2149 : (gN_ σ1756 182) < gN_ σ2108 182 := by rw [e2109]; exact hc2103
  have hc2150 : (gN_ σ1841 187) < gN_ σ2108 187 := by rw [e2109]; exact hc2104
  have hc2151 : (gN_ σ1928 188) < gN_ σ2108 188 := by rw [e2109]; exact hc2105
  have hc2152 : (gN_ σ2017 189) < gN_ σ2108 189 := by rw [e2109]; exact hc2106
  refine lv_aload_n hx hb dX10_init_343 rfl (lv_at hl 0 rfl) ?_
  refine lv_bipush (v := 6) hx hb dX10_init_344 (by decide) ?_
  have hp2153 : pr σ2108 109 0 := (pr_dy hc2110 rfl rfl)
  obtain ⟨σ2154, e2155, hs⟩ := ww_let hs
  obtain ⟨hs, hck⟩ := ww_ck1 hs
  have hrm1 := hcs.room (σ1 := σ2154) (a := 1) (b := 6) (by rw [e2155]; rfl) (by rw [e2155]; rfl) hck
  refine ww_newa (atype := .int) hx hb (hts _ q201) hW 190 0 6 (Or.inl rfl) sole_190 (Or.inr hgm) rfl rfl rfl (by decide) rfl (Nat.le_of_ble_eq_true rfl) hrm1.1 hrm1.2 dX10_init_346 (fun H L hx1 hW => ?_)
  rw [← e2155] at hx1 hW
  have hcs := hcs.more (σ1 := σ2154) (a := 1) (b := 6) (by rw [e2155]; rfl) (by rw [e2155]; rfl)
  have hrm := hrm1
  have hc2156 : 0 < gN_ σ2154 109 := Nat.lt_of_lt_of_le hc2110 (hx1.2.1 109)
  have hc2157 : (gN_ σ 112) < gN_ σ2154 112 := Nat.lt_of_lt_of_le hc2111 (hx1.2.1 112)
  have hc2158 : (gN_ σ17 113) < gN_ σ2154 113 := Nat.lt_of_lt_of_le hc2112 (hx1.2.1 113)
  have hc2159 : (gN_ σ28 114) < gN_ σ2154 114 := Nat.lt_of_lt_of_le hc2113 (hx1.2.1 114)
  have hc2160 : (gN_ σ41 115) < gN_ σ2154 115 := Nat.lt_of_lt_of_le hc2114 (hx1.2.1 115)
  have hc2161 : (gN_ σ56 116) < gN_ σ2154 116 := Nat.lt_of_lt_of_le hc2115 (hx1.2.1 116)
  have hc2162 : (gN_ σ73 117) < gN_ σ2154 117 := Nat.lt_of_lt_of_le hc2116 (hx1.2.1 117)
  have hc2163 : (gN_ σ92 118) < gN_ σ2154 118 := Nat.lt_of_lt_of_le hc2117 (hx1.2.1 118)
  have hc2164 : (gN_ σ113 119) < gN_ σ2154 119 := Nat.lt_of_lt_of_le hc2118 (hx1.2.1 119)
  have hc2165 : (gN_ σ136 127) < gN_ σ2154 127 := Nat.lt_of_lt_of_le hc2119 (hx1.2.1 127)
  have hc2166 : (gN_ σ161 128) < gN_ σ2154 128 := Nat.lt_of_lt_of_le hc2120 (hx1.2.1 128)
  have hc2167 : (gN_ σ188 129) < gN_ σ2154 129 := Nat.lt_of_lt_of_le hc2121 (hx1.2.1 129)
  have hc2168 : (gN_ σ217 130) < gN_ σ2154 130 := Nat.lt_of_lt_of_le hc2122 (hx1.2.1 130)
  have hc2169 : (gN_ σ248 131) < gN_ σ2154 131 := Nat.lt_of_lt_of_le hc2123 (hx1.2.1 131)
  have hc2170 : (gN_ σ281 137) < gN_ σ2154 137 := Nat.lt_of_lt_of_le hc2124 (hx1.2.1 137)
  have hc2171 : (gN_ σ316 138) < gN_ σ2154 138 := Nat.lt_of_lt_of_le hc2125 (hx1.2.1 138)
  have hc2172 : (gN_ σ353 145) < gN_ σ2154 145 := Nat.lt_of_lt_of_le hc2126 (hx1.2.1 145)
  have hc2173 : (gN_ σ392 146) < gN_ σ2154 146 := Nat.lt_of_lt_of_le hc2127 (hx1.2.1 146)
  have hc2174 : (gN_ σ433 147) < gN_ σ2154 147 := Nat.lt_of_lt_of_le hc2128 (hx1.2.1 147)
  have hc2175 : (gN_ σ476 148) < gN_ σ2154 148 := Nat.lt_of_lt_of_le hc2129 (hx1.2.1 148)
  have hc2176 : (gN_ σ521 150) < gN_ σ2154 150 := Nat.lt_of_lt_of_le hc2130 (hx1.2.1 150)
  have hc2177 : (gN_ σ568 151) < gN_ σ2154 151 := Nat.lt_of_lt_of_le hc2131 (hx1.2.1 151)
  have hc2178 : (gN_ σ617 152) < gN_ σ2154 152 := Nat.lt_of_lt_of_le hc2132 (hx1.2.1 152)
  have hc2179 : (gN_ σ668 153) < gN_ σ2154 153 := Nat.lt_of_lt_of_le hc2133 (hx1.2.1 153)
  have hc2180 : (gN_ σ721 154) < gN_ σ2154 154 := Nat.lt_of_lt_of_le hc2134 (hx1.2.1 154)
  have hc2181 : (gN_ σ776 155) < gN_ σ2154 155 := Nat.lt_of_lt_of_le hc2135 (hx1.2.1 155)
  have hc2182 : (gN_ σ833 156) < gN_ σ2154 156 := Nat.lt_of_lt_of_le hc2136 (hx1.2.1 156)
  have hc2183 : (gN_ σ892 157) < gN_ σ2154 157 := Nat.lt_of_lt_of_le hc2137 (hx1.2.1 157)
  have hc2184 : (gN_ σ953 158) < gN_ σ2154 158 := Nat.lt_of_lt_of_le hc2138 (hx1.2.1 158)
  have hc2185 : (gN_ σ1016 163) < gN_ σ2154 163 := Nat.lt_of_lt_of_le hc2139 (hx1.2.1 163)
  have hc2186 : (gN_ σ1081 164) < gN_ σ2154 164 := Nat.lt_of_lt_of_le hc2140 (hx1.2.1 164)
  have hc2187 : (gN_ σ1148 165) < gN_ σ2154 165 := Nat.lt_of_lt_of_le hc2141 (hx1.2.1 165)
  have hc2188 : (gN_ σ1217 166) < gN_ σ2154 166 := Nat.lt_of_lt_of_le hc2142 (hx1.2.1 166)
  have hc2189 : (gN_ σ1288 171) < gN_ σ2154 171 := Nat.lt_of_lt_of_le hc2143 (hx1.2.1 171)
  have hc2190 : (gN_ σ1361 175) < gN_ σ2154 175 := Nat.lt_of_lt_of_le hc2144 (hx1.2.1 175)
  have hc2191 : (gN_ σ1436 176) < gN_ σ2154 176 := Nat.lt_of_lt_of_le hc2145 (hx1.2.1 176)
  have hc2192 : (gN_ σ1513 177) < gN_ σ2154 177 := Nat.lt_of_lt_of_le hc2146 (hx1.2.1 177)
  have hc2193 : (gN_ σ1592 178) < gN_ σ2154 178 := Nat.lt_of_lt_of_le hc2147 (hx1.2.1 178)
  have hc2194 : (gN_ σ1673 179) < gN_ σ2154 179 := Nat.lt_of_lt_of_le hc2148 (hx1.2.1 179)
  have hc2195 : (gN_ σ1756 182) < gN_ σ2154 182 := Nat.lt_of_lt_of_le hc2149 (hx1.2.1 182)
  have hc2196 : (gN_ σ1841 187) < gN_ σ2154 187 := Nat.lt_of_lt_of_le hc2150 (hx1.2.1 187)
  have hc2197 : (gN_ σ1928 188) < gN_ σ2154 188 := Nat.lt_of_lt_of_le hc2151 (hx1.2.1 188)
  have hc2198 : (gN_ σ2017 189) < gN_ σ2154 189 := Nat.lt_of_lt_of_le hc2152 (hx1.2.1 189)
  have hc2199 : gN_ σ2108 190 < gN_ σ2154 190 := by rw [e2155]; exact nA_lt rfl
  rw [show ow_ 190 = 190 from rfl]
  have hl : lv_has ls 2 [(0, .ref (L 109 0))] := by rw [hx1.at hp2153 (by decide)]; exact hl
  refine ww_stk (st1 := [.ref (L 190 (gN_ σ2108 190)), .ref (L 109 0)]) (by rw [hx1.at hp2153 (by decide)]) ?_
  have hx0 := hx0.trans hx1
  obtain ⟨hc2200, hs⟩ := ww_chk hs
  have hpq : pr σ2154 190 (gN_ σ2108 190) := (pr_dy hc2199 rfl rfl)
  rw [hc2200] at hpq
  obtain ⟨σ2201, e2202, hs⟩ := ww_let hs
  refine ww_markF (d := (1, 190, 0)) hx hb hts hown (hnm.trans rfl) hW 109 0 80 0 (pr_dy hc2156 rfl rfl) (tgd_1 hpq) (obv_0 rfl) rfl (by decide) (Nat.le_of_ble_eq_true rfl) in_X10 tyX10_ok nmX10 rfl (Nat.le_of_ble_eq_true rfl) (hts _ q1773) (fun _ h => h) rfl rfl rfl (fun _ => rfl) (fun _ => rfl) (by rw [hc2200]; rfl) dX10_init_348 (fun H locs hW => ?_)
  have hW : wv g L σ2201 s H locs := by rw [e2202]; exact hW
  obtain ⟨hx0, hcs⟩ := lx_s (σ1 := σ2201) hx0 hcs (by rw [e2202]; exact (kp_M (by decide)))
  have hc2203 : 0 < gN_ σ2201 109 := by rw [e2202]; exact hc2156
  have hc2204 : (gN_ σ 112) < gN_ σ2201 112 := by rw [e2202]; exact hc2157
  have hc2205 : (gN_ σ17 113) < gN_ σ2201 113 := by rw [e2202]; exact hc2158
  have hc2206 : (gN_ σ28 114) < gN_ σ2201 114 := by rw [e2202]; exact hc2159
  have hc2207 : (gN_ σ41 115) < gN_ σ2201 115 := by rw [e2202]; exact hc2160
  have hc2208 : (gN_ σ56 116) < gN_ σ2201 116 := by rw [e2202]; exact hc2161
  have hc2209 : (gN_ σ73 117) < gN_ σ2201 117 := by rw [e2202]; exact hc2162
  have hc2210 : (gN_ σ92 118) < gN_ σ2201 118 := by rw [e2202]; exact hc2163
  have hc2211 : (gN_ σ113 119) < gN_ σ2201 119 := by rw [e2202]; exact hc2164
  have hc2212 : (gN_ σ136 127) < gN_ σ2201 127 := by rw [e2202]; exact hc2165
  have hc2213 : (gN_ σ161 128) < gN_ σ2201 128 := by rw [e2202]; exact hc2166
  have hc2214 : (gN_ σ188 129) < gN_ σ2201 129 := by rw [e2202]; exact hc2167
  have hc2215 : (gN_ σ217 130) < gN_ σ2201 130 := by rw [e2202]; exact hc2168
  have hc2216 : (gN_ σ248 131) < gN_ σ2201 131 := by rw [e2202]; exact hc2169
  have hc2217 : (gN_ σ281 137) < gN_ σ2201 137 := by rw [e2202]; exact hc2170
  have hc2218 : (gN_ σ316 138) < gN_ σ2201 138 := by rw [e2202]; exact hc2171
  have hc2219 : (gN_ σ353 145) < gN_ σ2201 145 := by rw [e2202]; exact hc2172
  have hc2220 : (gN_ σ392 146) < gN_ σ2201 146 := by rw [e2202]; exact hc2173
  have hc2221 : (gN_ σ433 147) < gN_ σ2201 147 := by rw [e2202]; exact hc2174
  have hc2222 : (gN_ σ476 148) < gN_ σ2201 148 := by rw [e2202]; exact hc2175
  have hc2223 : (gN_ σ521 150) < gN_ σ2201 150 := by rw [e2202]; exact hc2176
  have hc2224 : (gN_ σ568 151) < gN_ σ2201 151 := by rw [e2202]; exact hc2177
  have hc2225 : (gN_ σ617 152) < gN_ σ2201 152 := by rw [e2202]; exact hc2178
  have hc2226 : (gN_ σ668 153) < gN_ σ2201 153 := by rw [e2202]; exact hc2179
  have hc2227 : (gN_ σ721 154) < gN_ σ2201 154 := by rw [e2202]; exact hc2180
  have hc2228 : (gN_ σ776 155) < gN_ σ2201 155 := by rw [e2202]; exact hc2181
  have hc2229 : (gN_ σ833 156) < gN_ σ2201 156 := by rw [e2202]; exact hc2182
  have hc2230 : (gN_ σ892 157) < gN_ σ2201 157 := by rw [e2202]; exact hc2183
  have hc2231 : (gN_ σ953 158) < gN_ σ2201 158 := by rw [e2202]; exact hc2184
  have hc2232 : (gN_ σ1016 163) < gN_ σ2201 163 := by rw [e2202]; exact hc2185
  have hc2233 : (gN_ σ1081 164) < gN_ σ2201 164 := by rw [e2202]; exact hc2186
  have hc2234 : (gN_ σ1148 165) < gN_ σ2201 165 := by rw [e2202]; exact hc2187
  have hc2235 : (gN_ σ1217 166) < gN_ σ2201 166 := by rw [e2202]; exact hc2188
  have hc2236 : (gN_ σ1288 171) < gN_ σ2201 171 := by rw [e2202]; exact hc2189
  have hc2237 : (gN_ σ1361 175) < gN_ σ2201 175 := by rw [e2202]; exact hc2190
  have hc2238 : (gN_ σ1436 176) < gN_ σ2201 176 := by rw [e2202]; exact hc2191
  have hc2239 : (gN_ σ1513 177) < gN_ σ2201 177 := by rw [e2202]; exact hc2192
  have hc2240 : (gN_ σ1592 178) < gN_ σ2201 178 := by rw [e2202]; exact hc2193
  have hc2241 : (gN_ σ1673 179) < gN_ σ2201 179 := by rw [e2202]; exact hc2194
  have hc2242 : (gN_ σ1756 182) < gN_ σ2201 182 := by rw [e2202]; exact hc2195
  have hc2243 : (gN_ σ1841 187) < gN_ σ2201 187 := by rw [e2202]; exact hc2196
  have hc2244 : (gN_ σ1928 188) < gN_ σ2201 188 := by rw [e2202]; exact hc2197
  have hc2245 : (gN_ σ2017 189) < gN_ σ2201 189 := by rw [e2202]; exact hc2198
  have hc2246 : (gN_ σ2108 190) < gN_ σ2201 190 := by rw [e2202]; exact hc2199
  refine lv_aload_n hx hb dX10_init_351 rfl (lv_at hl 0 rfl) ?_
  refine lv_sipush (v := 160) hx hb dX10_init_352 (by decide) ?_
  have hp2247 : pr σ2201 109 0 := (pr_dy hc2203 rfl rfl)
  obtain ⟨σ2248, e2249, hs⟩ := ww_let hs
  obtain ⟨hs, hck⟩ := ww_ck1 hs
  have hrm1 := hcs.room (σ1 := σ2248) (a := 1) (b := 160) (by rw [e2249]; rfl) (by rw [e2249]; rfl) hck
  refine ww_newa (atype := .int) hx hb (hts _ q201) hW 193 0 160 (Or.inl rfl) sole_193 (Or.inr hgm) rfl rfl rfl (by decide) rfl (Nat.le_of_ble_eq_true rfl) hrm1.1 hrm1.2 dX10_init_355 (fun H L hx1 hW => ?_)
  rw [← e2249] at hx1 hW
  have hcs := hcs.more (σ1 := σ2248) (a := 1) (b := 160) (by rw [e2249]; rfl) (by rw [e2249]; rfl)
  have hrm := hrm1
  have hc2250 : 0 < gN_ σ2248 109 := Nat.lt_of_lt_of_le hc2203 (hx1.2.1 109)
  have hc2251 : (gN_ σ 112) < gN_ σ2248 112 := Nat.lt_of_lt_of_le hc2204 (hx1.2.1 112)
  have hc2252 : (gN_ σ17 113) < gN_ σ2248 113 := Nat.lt_of_lt_of_le hc2205 (hx1.2.1 113)
  have hc2253 : (gN_ σ28 114) < gN_ σ2248 114 := Nat.lt_of_lt_of_le hc2206 (hx1.2.1 114)
  have hc2254 : (gN_ σ41 115) < gN_ σ2248 115 := Nat.lt_of_lt_of_le hc2207 (hx1.2.1 115)
  have hc2255 : (gN_ σ56 116) < gN_ σ2248 116 := Nat.lt_of_lt_of_le hc2208 (hx1.2.1 116)
  have hc2256 : (gN_ σ73 117) < gN_ σ2248 117 := Nat.lt_of_lt_of_le hc2209 (hx1.2.1 117)
  have hc2257 : (gN_ σ92 118) < gN_ σ2248 118 := Nat.lt_of_lt_of_le hc2210 (hx1.2.1 118)
  have hc2258 : (gN_ σ113 119) < gN_ σ2248 119 := Nat.lt_of_lt_of_le hc2211 (hx1.2.1 119)
  have hc2259 : (gN_ σ136 127) < gN_ σ2248 127 := Nat.lt_of_lt_of_le hc2212 (hx1.2.1 127)
  have hc2260 : (gN_ σ161 128) < gN_ σ2248 128 := Nat.lt_of_lt_of_le hc2213 (hx1.2.1 128)
  have hc2261 : (gN_ σ188 129) < gN_ σ2248 129 := Nat.lt_of_lt_of_le hc2214 (hx1.2.1 129)
  have hc2262 : (gN_ σ217 130) < gN_ σ2248 130 := Nat.lt_of_lt_of_le hc2215 (hx1.2.1 130)
  have hc2263 : (gN_ σ248 131) < gN_ σ2248 131 := Nat.lt_of_lt_of_le hc2216 (hx1.2.1 131)
  have hc2264 : (gN_ σ281 137) < gN_ σ2248 137 := Nat.lt_of_lt_of_le hc2217 (hx1.2.1 137)
  have hc2265 : (gN_ σ316 138) < gN_ σ2248 138 := Nat.lt_of_lt_of_le hc2218 (hx1.2.1 138)
  have hc2266 : (gN_ σ353 145) < gN_ σ2248 145 := Nat.lt_of_lt_of_le hc2219 (hx1.2.1 145)
  have hc2267 : (gN_ σ392 146) < gN_ σ2248 146 := Nat.lt_of_lt_of_le hc2220 (hx1.2.1 146)
  have hc2268 : (gN_ σ433 147) < gN_ σ2248 147 := Nat.lt_of_lt_of_le hc2221 (hx1.2.1 147)
  have hc2269 : (gN_ σ476 148) < gN_ σ2248 148 := Nat.lt_of_lt_of_le hc2222 (hx1.2.1 148)
  have hc2270 : (gN_ σ521 150) < gN_ σ2248 150 := Nat.lt_of_lt_of_le hc2223 (hx1.2.1 150)
  have hc2271 : (gN_ σ568 151) < gN_ σ2248 151 := Nat.lt_of_lt_of_le hc2224 (hx1.2.1 151)
  have hc2272 : (gN_ σ617 152) < gN_ σ2248 152 := Nat.lt_of_lt_of_le hc2225 (hx1.2.1 152)
  have hc2273 : (gN_ σ668 153) < gN_ σ2248 153 := Nat.lt_of_lt_of_le hc2226 (hx1.2.1 153)
  have hc2274 : (gN_ σ721 154) < gN_ σ2248 154 := Nat.lt_of_lt_of_le hc2227 (hx1.2.1 154)
  have hc2275 : (gN_ σ776 155) < gN_ σ2248 155 := Nat.lt_of_lt_of_le hc2228 (hx1.2.1 155)
  have hc2276 : (gN_ σ833 156) < gN_ σ2248 156 := Nat.lt_of_lt_of_le hc2229 (hx1.2.1 156)
  have hc2277 : (gN_ σ892 157) < gN_ σ2248 157 := Nat.lt_of_lt_of_le hc2230 (hx1.2.1 157)
  have hc2278 : (gN_ σ953 158) < gN_ σ2248 158 := Nat.lt_of_lt_of_le hc2231 (hx1.2.1 158)
  have hc2279 : (gN_ σ1016 163) < gN_ σ2248 163 := Nat.lt_of_lt_of_le hc2232 (hx1.2.1 163)
  have hc2280 : (gN_ σ1081 164) < gN_ σ2248 164 := Nat.lt_of_lt_of_le hc2233 (hx1.2.1 164)
  have hc2281 : (gN_ σ1148 165) < gN_ σ2248 165 := Nat.lt_of_lt_of_le hc2234 (hx1.2.1 165)
  have hc2282 : (gN_ σ1217 166) < gN_ σ2248 166 := Nat.lt_of_lt_of_le hc2235 (hx1.2.1 166)
  have hc2283 : (gN_ σ1288 171) < gN_ σ2248 171 := Nat.lt_of_lt_of_le hc2236 (hx1.2.1 171)
  have hc2284 : (gN_ σ1361 175) < gN_ σ2248 175 := Nat.lt_of_lt_of_le hc2237 (hx1.2.1 175)
  have hc2285 : (gN_ σ1436 176) < gN_ σ2248 176 := Nat.lt_of_lt_of_le hc2238 (hx1.2.1 176)
  have hc2286 : (gN_ σ1513 177) < gN_ σ2248 177 := Nat.lt_of_lt_of_le hc2239 (hx1.2.1 177)
  have hc2287 : (gN_ σ1592 178) < gN_ σ2248 178 := Nat.lt_of_lt_of_le hc2240 (hx1.2.1 178)
  have hc2288 : (gN_ σ1673 179) < gN_ σ2248 179 := Nat.lt_of_lt_of_le hc2241 (hx1.2.1 179)
  have hc2289 : (gN_ σ1756 182) < gN_ σ2248 182 := Nat.lt_of_lt_of_le hc2242 (hx1.2.1 182)
  have hc2290 : (gN_ σ1841 187) < gN_ σ2248 187 := Nat.lt_of_lt_of_le hc2243 (hx1.2.1 187)
  have hc2291 : (gN_ σ1928 188) < gN_ σ2248 188 := Nat.lt_of_lt_of_le hc2244 (hx1.2.1 188)
  have hc2292 : (gN_ σ2017 189) < gN_ σ2248 189 := Nat.lt_of_lt_of_le hc2245 (hx1.2.1 189)
  have hc2293 : (gN_ σ2108 190) < gN_ σ2248 190 := Nat.lt_of_lt_of_le hc2246 (hx1.2.1 190)
  have hc2294 : gN_ σ2201 193 < gN_ σ2248 193 := by rw [e2249]; exact nA_lt rfl
  rw [show ow_ 193 = 193 from rfl]
  have hl : lv_has ls 2 [(0, .ref (L 109 0))] := by rw [hx1.at hp2247 (by decide)]; exact hl
  refine ww_stk (st1 := [.ref (L 193 (gN_ σ2201 193)), .ref (L 109 0)]) (by rw [hx1.at hp2247 (by decide)]) ?_
  have hx0 := hx0.trans hx1
  obtain ⟨hc2295, hs⟩ := ww_chk hs
  have hpq : pr σ2248 193 (gN_ σ2201 193) := (pr_dy hc2294 rfl rfl)
  rw [hc2295] at hpq
  obtain ⟨σ2296, e2297, hs⟩ := ww_let hs
  refine ww_markF (d := (1, 193, 0)) hx hb hts hown (hnm.trans rfl) hW 109 0 83 0 (pr_dy hc2250 rfl rfl) (tgd_1 hpq) (obv_0 rfl) rfl (by decide) (Nat.le_of_ble_eq_true rfl) in_X10 tyX10_ok nmX10 rfl (Nat.le_of_ble_eq_true rfl) (hts _ q1776) (fun _ h => h) rfl rfl rfl (fun _ => rfl) (fun _ => rfl) (by rw [hc2295]; rfl) dX10_init_357 (fun H locs hW => ?_)
  have hW : wv g L σ2296 s H locs := by rw [e2297]; exact hW
  obtain ⟨hx0, hcs⟩ := lx_s (σ1 := σ2296) hx0 hcs (by rw [e2297]; exact (kp_M (by decide)))
  have hc2298 : 0 < gN_ σ2296 109 := by rw [e2297]; exact hc2250
  have hc2299 : (gN_ σ 112) < gN_ σ2296 112 := by rw [e2297]; exact hc2251
  have hc2300 : (gN_ σ17 113) < gN_ σ2296 113 := by rw [e2297]; exact hc2252
  have hc2301 : (gN_ σ28 114) < gN_ σ2296 114 := by rw [e2297]; exact hc2253
  have hc2302 : (gN_ σ41 115) < gN_ σ2296 115 := by rw [e2297]; exact hc2254
  have hc2303 : (gN_ σ56 116) < gN_ σ2296 116 := by rw [e2297]; exact hc2255
  have hc2304 : (gN_ σ73 117) < gN_ σ2296 117 := by rw [e2297]; exact hc2256
  have hc2305 : (gN_ σ92 118) < gN_ σ2296 118 := by rw [e2297]; exact hc2257
  have hc2306 : (gN_ σ113 119) < gN_ σ2296 119 := by rw [e2297]; exact hc2258
  have hc2307 : (gN_ σ136 127) < gN_ σ2296 127 := by rw [e2297]; exact hc2259
  have hc2308 : (gN_ σ161 128) < gN_ σ2296 128 := by rw [e2297]; exact hc2260
  have hc2309 : (gN_ σ188 129) < gN_ σ2296 129 := by rw [e2297]; exact hc2261
  have hc2310 : (gN_ σ217 130) < gN_ σ2296 130 := by rw [e2297]; exact hc2262
  have hc2311 : (gN_ σ248 131) < gN_ σ2296 131 := by rw [e2297]; exact hc2263
  have hc2312 : (gN_ σ281 137) < gN_ σ2296 137 := by rw [e2297]; exact hc2264
  have hc2313 : (gN_ σ316 138) < gN_ σ2296 138 := by rw [e2297]; exact hc2265
  have hc2314 : (gN_ σ353 145) < gN_ σ2296 145 := by rw [e2297]; exact hc2266
  have hc2315 : (gN_ σ392 146) < gN_ σ2296 146 := by rw [e2297]; exact hc2267
  have hc2316 : (gN_ σ433 147) < gN_ σ2296 147 := by rw [e2297]; exact hc2268
  have hc2317 : (gN_ σ476 148) < gN_ σ2296 148 := by rw [e2297]; exact hc2269
  have hc2318 : (gN_ σ521 150) < gN_ σ2296 150 := by rw [e2297]; exact hc2270
  have hc2319 : (gN_ σ568 151) < gN_ σ2296 151 := by rw [e2297]; exact hc2271
  have hc2320 : (gN_ σ617 152) < gN_ σ2296 152 := by rw [e2297]; exact hc2272
  have hc2321 : (gN_ σ668 153) < gN_ σ2296 153 := by rw [e2297]; exact hc2273
  have hc2322 : (gN_ σ721 154) < gN_ σ2296 154 := by rw [e2297]; exact hc2274
  have hc2323 : (gN_ σ776 155) < gN_ σ2296 155 := by rw [e2297]; exact hc2275
  have hc2324 : (gN_ σ833 156) < gN_ σ2296 156 := by rw [e2297]; exact hc2276
  have hc2325 : (gN_ σ892 157) < gN_ σ2296 157 := by rw [e2297]; exact hc2277
  have hc2326 : (gN_ σ953 158) < gN_ σ2296 158 := by rw [e2297]; exact hc2278
  have hc2327 : (gN_ σ1016 163) < gN_ σ2296 163 := by rw [e2297]; exact hc2279
  have hc2328 : (gN_ σ1081 164) < gN_ σ2296 164 := by rw [e2297]; exact hc2280
  have hc2329 : (gN_ σ1148 165) < gN_ σ2296 165 := by rw [e2297]; exact hc2281
  have hc2330 : (gN_ σ1217 166) < gN_ σ2296 166 := by rw [e2297]; exact hc2282
  have hc2331 : (gN_ σ1288 171) < gN_ σ2296 171 := by rw [e2297]; exact hc2283
  have hc2332 : (gN_ σ1361 175) < gN_ σ2296 175 := by rw [e2297]; exact hc2284
  have hc2333 : (gN_ σ1436 176) < gN_ σ2296 176 := by rw [e2297]; exact hc2285
  have hc2334 : (gN_ σ1513 177) < gN_ σ2296 177 := by rw [e2297]; exact hc2286
  have hc2335 : (gN_ σ1592 178) < gN_ σ2296 178 := by rw [e2297]; exact hc2287
  have hc2336 : (gN_ σ1673 179) < gN_ σ2296 179 := by rw [e2297]; exact hc2288
  have hc2337 : (gN_ σ1756 182) < gN_ σ2296 182 := by rw [e2297]; exact hc2289
  have hc2338 : (gN_ σ1841 187) < gN_ σ2296 187 := by rw [e2297]; exact hc2290
  have hc2339 : (gN_ σ1928 188) < gN_ σ2296 188 := by rw [e2297]; exact hc2291
  have hc2340 : (gN_ σ2017 189) < gN_ σ2296 189 := by rw [e2297]; exact hc2292
  have hc2341 : (gN_ σ2108 190) < gN_ σ2296 190 := by rw [e2297]; exact hc2293
  have hc2342 : (gN_ σ2201 193) < gN_ σ2296 193 := by rw [e2297]; exact hc2294
  refine lv_aload_n hx hb dX10_init_360 rfl (lv_at hl 0 rfl) ?_
  refine lv_sipush (v := 160) hx hb dX10_init_361 (by decide) ?_
  have hp2343 : pr σ2296 109 0 := (pr_dy hc2298 rfl rfl)
  obtain ⟨σ2344, e2345, hs⟩ := ww_let hs
  obtain ⟨hs, hck⟩ := ww_ck1 hs
  have hrm1 := hcs.room (σ1 := σ2344) (a := 1) (b := 160) (by rw [e2345]; rfl) (by rw [e2345]; rfl) hck
  refine ww_newa (atype := .int) hx hb (hts _ q201) hW 194 0 160 (Or.inl rfl) sole_194 (Or.inr hgm) rfl rfl rfl (by decide) rfl (Nat.le_of_ble_eq_true rfl) hrm1.1 hrm1.2 dX10_init_364 (fun H L hx1 hW => ?_)
  rw [← e2345] at hx1 hW
  have hcs := hcs.more (σ1 := σ2344) (a := 1) (b := 160) (by rw [e2345]; rfl) (by rw [e2345]; rfl)
  have hrm := hrm1
  have hc2346 : 0 < gN_ σ2344 109 := Nat.lt_of_lt_of_le hc2298 (hx1.2.1 109)
  have hc2347 : (gN_ σ 112) < gN_ σ2344 112 := Nat.lt_of_lt_of_le hc2299 (hx1.2.1 112)
  have hc2348 : (gN_ σ17 113) < gN_ σ2344 113 := Nat.lt_of_lt_of_le hc2300 (hx1.2.1 113)
  have hc2349 : (gN_ σ28 114) < gN_ σ2344 114 := Nat.lt_of_lt_of_le hc2301 (hx1.2.1 114)
  have hc2350 : (gN_ σ41 115) < gN_ σ2344 115 := Nat.lt_of_lt_of_le hc2302 (hx1.2.1 115)
  have hc2351 : (gN_ σ56 116) < gN_ σ2344 116 := Nat.lt_of_lt_of_le hc2303 (hx1.2.1 116)
  have hc2352 : (gN_ σ73 117) < gN_ σ2344 117 := Nat.lt_of_lt_of_le hc2304 (hx1.2.1 117)
  have hc2353 : (gN_ σ92 118) < gN_ σ2344 118 := Nat.lt_of_lt_of_le hc2305 (hx1.2.1 118)
  have hc2354 : (gN_ σ113 119) < gN_ σ2344 119 := Nat.lt_of_lt_of_le hc2306 (hx1.2.1 119)
  have hc2355 : (gN_ σ136 127) < gN_ σ2344 127 := Nat.lt_of_lt_of_le hc2307 (hx1.2.1 127)
  have hc2356 : (gN_ σ161 128) < gN_ σ2344 128 := Nat.lt_of_lt_of_le hc2308 (hx1.2.1 128)
  have hc2357 : (gN_ σ188 129) < gN_ σ2344 129 := Nat.lt_of_lt_of_le hc2309 (hx1.2.1 129)
  have hc2358 : (gN_ σ217 130) < gN_ σ2344 130 := Nat.lt_of_lt_of_le hc2310 (hx1.2.1 130)
  have hc2359 : (gN_ σ248 131) < gN_ σ2344 131 := Nat.lt_of_lt_of_le hc2311 (hx1.2.1 131)
  have hc2360 : (gN_ σ281 137) < gN_ σ2344 137 := Nat.lt_of_lt_of_le hc2312 (hx1.2.1 137)
  have hc2361 : (gN_ σ316 138) < gN_ σ2344 138 := Nat.lt_of_lt_of_le hc2313 (hx1.2.1 138)
  have hc2362 : (gN_ σ353 145) < gN_ σ2344 145 := Nat.lt_of_lt_of_le hc2314 (hx1.2.1 145)
  have hc2363 : (gN_ σ392 146) < gN_ σ2344 146 := Nat.lt_of_lt_of_le hc2315 (hx1.2.1 146)
  have hc2364 : (gN_ σ433 147) < gN_ σ2344 147 := Nat.lt_of_lt_of_le hc2316 (hx1.2.1 147)
  have hc2365 : (gN_ σ476 148) < gN_ σ2344 148 := Nat.lt_of_lt_of_le hc2317 (hx1.2.1 148)
  have hc2366 : (gN_ σ521 150) < gN_ σ2344 150 := Nat.lt_of_lt_of_le hc2318 (hx1.2.1 150)
  have hc2367 : (gN_ σ568 151) < gN_ σ2344 151 := Nat.lt_of_lt_of_le hc2319 (hx1.2.1 151)
  have hc2368 : (gN_ σ617 152) < gN_ σ2344 152 := Nat.lt_of_lt_of_le hc2320 (hx1.2.1 152)
  have hc2369 : (gN_ σ668 153) < gN_ σ2344 153 := Nat.lt_of_lt_of_le hc2321 (hx1.2.1 153)
  have hc2370 : (gN_ σ721 154) < gN_ σ2344 154 := Nat.lt_of_lt_of_le hc2322 (hx1.2.1 154)
  have hc2371 : (gN_ σ776 155) < gN_ σ2344 155 := Nat.lt_of_lt_of_le hc2323 (hx1.2.1 155)
  have hc2372 : (gN_ σ833 156) < gN_ σ2344 156 := Nat.lt_of_lt_of_le hc2324 (hx1.2.1 156)
  have hc2373 : (gN_ σ892 157) < gN_ σ2344 157 := Nat.lt_of_lt_of_le hc2325 (hx1.2.1 157)
  have hc2374 : (gN_ σ953 158) < gN_ σ2344 158 := Nat.lt_of_lt_of_le hc2326 (hx1.2.1 158)
  have hc2375 : (gN_ σ1016 163) < gN_ σ2344 163 := Nat.lt_of_lt_of_le hc2327 (hx1.2.1 163)
  have hc2376 : (gN_ σ1081 164) < gN_ σ2344 164 := Nat.lt_of_lt_of_le hc2328 (hx1.2.1 164)
  have hc2377 : (gN_ σ1148 165) < gN_ σ2344 165 := Nat.lt_of_lt_of_le hc2329 (hx1.2.1 165)
  have hc2378 : (gN_ σ1217 166) < gN_ σ2344 166 := Nat.lt_of_lt_of_le hc2330 (hx1.2.1 166)
  have hc2379 : (gN_ σ1288 171) < gN_ σ2344 171 := Nat.lt_of_lt_of_le hc2331 (hx1.2.1 171)
  have hc2380 : (gN_ σ1361 175) < gN_ σ2344 175 := Nat.lt_of_lt_of_le hc2332 (hx1.2.1 175)
  have hc2381 : (gN_ σ1436 176) < gN_ σ2344 176 := Nat.lt_of_lt_of_le hc2333 (hx1.2.1 176)
  have hc2382 : (gN_ σ1513 177) < gN_ σ2344 177 := Nat.lt_of_lt_of_le hc2334 (hx1.2.1 177)
  have hc2383 : (gN_ σ1592 178) < gN_ σ2344 178 := Nat.lt_of_lt_of_le hc2335 (hx1.2.1 178)
  have hc2384 : (gN_ σ1673 179) < gN_ σ2344 179 := Nat.lt_of_lt_of_le hc2336 (hx1.2.1 179)
  have hc2385 : (gN_ σ1756 182) < gN_ σ2344 182 := Nat.lt_of_lt_of_le hc2337 (hx1.2.1 182)
  have hc2386 : (gN_ σ1841 187) < gN_ σ2344 187 := Nat.lt_of_lt_of_le hc2338 (hx1.2.1 187)
  have hc2387 : (gN_ σ1928 188) < gN_ σ2344 188 := Nat.lt_of_lt_of_le hc2339 (hx1.2.1 188)
  have hc2388 : (gN_ σ2017 189) < gN_ σ2344 189 := Nat.lt_of_lt_of_le hc2340 (hx1.2.1 189)
  have hc2389 : (gN_ σ2108 190) < gN_ σ2344 190 := Nat.lt_of_lt_of_le hc2341 (hx1.2.1 190)
  have hc2390 : (gN_ σ2201 193) < gN_ σ2344 193 := Nat.lt_of_lt_of_le hc2342 (hx1.2.1 193)
  have hc2391 : gN_ σ2296 194 < gN_ σ2344 194 := by rw [e2345]; exact nA_lt rfl
  rw [show ow_ 194 = 194 from rfl]
  have hl : lv_has ls 2 [(0, .ref (L 109 0))] := by rw [hx1.at hp2343 (by decide)]; exact hl
  refine ww_stk (st1 := [.ref (L 194 (gN_ σ2296 194)), .ref (L 109 0)]) (by rw [hx1.at hp2343 (by decide)]) ?_
  have hx0 := hx0.trans hx1
  obtain ⟨hc2392, hs⟩ := ww_chk hs
  have hpq : pr σ2344 194 (gN_ σ2296 194) := (pr_dy hc2391 rfl rfl)
  rw [hc2392] at hpq
  obtain ⟨σ2393, e2394, hs⟩ := ww_let hs
  refine ww_markF (d := (1, 194, 0)) hx hb hts hown (hnm.trans rfl) hW 109 0 84 0 (pr_dy hc2346 rfl rfl) (tgd_1 hpq) (obv_0 rfl) rfl (by decide) (Nat.le_of_ble_eq_true rfl) in_X10 tyX10_ok nmX10 rfl (Nat.le_of_ble_eq_true rfl) (hts _ q1777) (fun _ h => h) rfl rfl rfl (fun _ => rfl) (fun _ => rfl) (by rw [hc2392]; rfl) dX10_init_366 (fun H locs hW => ?_)
  have hW : wv g L σ2393 s H locs := by rw [e2394]; exact hW
  obtain ⟨hx0, hcs⟩ := lx_s (σ1 := σ2393) hx0 hcs (by rw [e2394]; exact (kp_M (by decide)))
  have hc2395 : 0 < gN_ σ2393 109 := by rw [e2394]; exact hc2346
  have hc2396 : (gN_ σ 112) < gN_ σ2393 112 := by rw [e2394]; exact hc2347
  have hc2397 : (gN_ σ17 113) < gN_ σ2393 113 := by rw [e2394]; exact hc2348
  have hc2398 : (gN_ σ28 114) < gN_ σ2393 114 := by rw [e2394]; exact hc2349
  have hc2399 : (gN_ σ41 115) < gN_ σ2393 115 := by rw [e2394]; exact hc2350
  have hc2400 : (gN_ σ56 116) < gN_ σ2393 116 := by rw [e2394]; exact hc2351
  have hc2401 : (gN_ σ73 117) < gN_ σ2393 117 := by rw [e2394]; exact hc2352
  have hc2402 : (gN_ σ92 118) < gN_ σ2393 118 := by rw [e2394]; exact hc2353
  have hc2403 : (gN_ σ113 119) < gN_ σ2393 119 := by rw [e2394]; exact hc2354
  have hc2404 : (gN_ σ136 127) < gN_ σ2393 127 := by rw [e2394]; exact hc2355
  have hc2405 : (gN_ σ161 128) < gN_ σ2393 128 := by rw [e2394]; exact hc2356
  have hc2406 : (gN_ σ188 129) < gN_ σ2393 129 := by rw [e2394]; exact hc2357
  have hc2407 : (gN_ σ217 130) < gN_ σ2393 130 := by rw [e2394]; exact hc2358
  have hc2408 : (gN_ σ248 131) < gN_ σ2393 131 := by rw [e2394]; exact hc2359
  have hc2409 : (gN_ σ281 137) < gN_ σ2393 137 := by rw [e2394]; exact hc2360
  have hc2410 : (gN_ σ316 138) < gN_ σ2393 138 := by rw [e2394]; exact hc2361
  have hc2411 : (gN_ σ353 145) < gN_ σ2393 145 := by rw [e2394]; exact hc2362
  have hc2412 : (gN_ σ392 146) < gN_ σ2393 146 := by rw [e2394]; exact hc2363
  have hc2413 : (gN_ σ433 147) < gN_ σ2393 147 := by rw [e2394]; exact hc2364
  have hc2414 : (gN_ σ476 148) < gN_ σ2393 148 := by rw [e2394]; exact hc2365
  have hc2415 : (gN_ σ521 150) < gN_ σ2393 150 := by rw [e2394]; exact hc2366
  have hc2416 : (gN_ σ568 151) < gN_ σ2393 151 := by rw [e2394]; exact hc2367
  have hc2417 : (gN_ σ617 152) < gN_ σ2393 152 := by rw [e2394]; exact hc2368
  have hc2418 : (gN_ σ668 153) < gN_ σ2393 153 := by rw [e2394]; exact hc2369
  have hc2419 : (gN_ σ721 154) < gN_ σ2393 154 := by rw [e2394]; exact hc2370
  have hc2420 : (gN_ σ776 155) < gN_ σ2393 155 := by rw [e2394]; exact hc2371
  have hc2421 : (gN_ σ833 156) < gN_ σ2393 156 := by rw [e2394]; exact hc2372
  have hc2422 : (gN_ σ892 157) < gN_ σ2393 157 := by rw [e2394]; exact hc2373
  have hc2423 : (gN_ σ953 158) < gN_ σ2393 158 := by rw [e2394]; exact hc2374
  have hc2424 : (gN_ σ1016 163) < gN_ σ2393 163 := by rw [e2394]; exact hc2375
  have hc2425 : (gN_ σ1081 164) < gN_ σ2393 164 := by rw [e2394]; exact hc2376
  have hc2426 : (gN_ σ1148 165) < gN_ σ2393 165 := by rw [e2394]; exact hc2377
  have hc2427 : (gN_ σ1217 166) < gN_ σ2393 166 := by rw [e2394]; exact hc2378
  have hc2428 : (gN_ σ1288 171) < gN_ σ2393 171 := by rw [e2394]; exact hc2379
  have hc2429 : (gN_ σ1361 175) < gN_ σ2393 175 := by rw [e2394]; exact hc2380
  have hc2430 : (gN_ σ1436 176) < gN_ σ2393 176 := by rw [e2394]; exact hc2381
  have hc2431 : (gN_ σ1513 177) < gN_ σ2393 177 := by rw [e2394]; exact hc2382
  have hc2432 : (gN_ σ1592 178) < gN_ σ2393 178 := by rw [e2394]; exact hc2383
  have hc2433 : (gN_ σ1673 179) < gN_ σ2393 179 := by rw [e2394]; exact hc2384
  have hc2434 : (gN_ σ1756 182) < gN_ σ2393 182 := by rw [e2394]; exact hc2385
  have hc2435 : (gN_ σ1841 187) < gN_ σ2393 187 := by rw [e2394]; exact hc2386
  have hc2436 : (gN_ σ1928 188) < gN_ σ2393 188 := by rw [e2394]; exact hc2387
  have hc2437 : (gN_ σ2017 189) < gN_ σ2393 189 := by rw [e2394]; exact hc2388
  have hc2438 : (gN_ σ2108 190) < gN_ σ2393 190 := by rw [e2394]; exact hc2389
  have hc2439 : (gN_ σ2201 193) < gN_ σ2393 193 := by rw [e2394]; exact hc2390
  have hc2440 : (gN_ σ2296 194) < gN_ σ2393 194 := by rw [e2394]; exact hc2391
  refine lv_aload_n hx hb dX10_init_369 rfl (lv_at hl 0 rfl) ?_
  refine lv_sipush (v := 160) hx hb dX10_init_370 (by decide) ?_
  have hp2441 : pr σ2393 109 0 := (pr_dy hc2395 rfl rfl)
  obtain ⟨σ2442, e2443, hs⟩ := ww_let hs
  obtain ⟨hs, hck⟩ := ww_ck1 hs
  have hrm1 := hcs.room (σ1 := σ2442) (a := 1) (b := 160) (by rw [e2443]; rfl) (by rw [e2443]; rfl) hck
  refine ww_newa (atype := .int) hx hb (hts _ q201) hW 195 0 160 (Or.inl rfl) sole_195 (Or.inr hgm) rfl rfl rfl (by decide) rfl (Nat.le_of_ble_eq_true rfl) hrm1.1 hrm1.2 dX10_init_373 (fun H L hx1 hW => ?_)
  rw [← e2443] at hx1 hW
  have hcs := hcs.more (σ1 := σ2442) (a := 1) (b := 160) (by rw [e2443]; rfl) (by rw [e2443]; rfl)
  have hrm := hrm1
  have hc2444 : 0 < gN_ σ2442 109 := Nat.lt_of_lt_of_le hc2395 (hx1.2.1 109)
  have hc2445 : (gN_ σ 112) < gN_ σ2442 112 := Nat.lt_of_lt_of_le hc2396 (hx1.2.1 112)
  have hc2446 : (gN_ σ17 113) < gN_ σ2442 113 := Nat.lt_of_lt_of_le hc2397 (hx1.2.1 113)
  have hc2447 : (gN_ σ28 114) < gN_ σ2442 114 := Nat.lt_of_lt_of_le hc2398 (hx1.2.1 114)
  have hc2448 : (gN_ σ41 115) < gN_ σ2442 115 := Nat.lt_of_lt_of_le hc2399 (hx1.2.1 115)
  have hc2449 : (gN_ σ56 116) < gN_ σ2442 116 := Nat.lt_of_lt_of_le hc2400 (hx1.2.1 116)
  have hc2450 : (gN_ σ73 117) < gN_ σ2442 117 := Nat.lt_of_lt_of_le hc2401 (hx1.2.1 117)
  have hc2451 : (gN_ σ92 118) < gN_ σ2442 118 := Nat.lt_of_lt_of_le hc2402 (hx1.2.1 118)
  have hc2452 : (gN_ σ113 119) < gN_ σ2442 119 := Nat.lt_of_lt_of_le hc2403 (hx1.2.1 119)
  have hc2453 : (gN_ σ136 127) < gN_ σ2442 127 := Nat.lt_of_lt_of_le hc2404 (hx1.2.1 127)
  have hc2454 : (gN_ σ161 128) < gN_ σ2442 128 := Nat.lt_of_lt_of_le hc2405 (hx1.2.1 128)
  have hc2455 : (gN_ σ188 129) < gN_ σ2442 129 := Nat.lt_of_lt_of_le hc2406 (hx1.2.1 129)
  have hc2456 : (gN_ σ217 130) < gN_ σ2442 130 := Nat.lt_of_lt_of_le hc2407 (hx1.2.1 130)
  have hc2457 : (gN_ σ248 131) < gN_ σ2442 131 := Nat.lt_of_lt_of_le hc2408 (hx1.2.1 131)
  have hc2458 : (gN_ σ281 137) < gN_ σ2442 137 := Nat.lt_of_lt_of_le hc2409 (hx1.2.1 137)
  have hc2459 : (gN_ σ316 138) < gN_ σ2442 138 := Nat.lt_of_lt_of_le hc2410 (hx1.2.1 138)
  have hc2460 : (gN_ σ353 145) < gN_ σ2442 145 := Nat.lt_of_lt_of_le hc2411 (hx1.2.1 145)
  have hc2461 : (gN_ σ392 146) < gN_ σ2442 146 := Nat.lt_of_lt_of_le hc2412 (hx1.2.1 146)
  have hc2462 : (gN_ σ433 147) < gN_ σ2442 147 := Nat.lt_of_lt_of_le hc2413 (hx1.2.1 147)
  have hc2463 : (gN_ σ476 148) < gN_ σ2442 148 := Nat.lt_of_lt_of_le hc2414 (hx1.2.1 148)
  have hc2464 : (gN_ σ521 150) < gN_ σ2442 150 := Nat.lt_of_lt_of_le hc2415 (hx1.2.1 150)
  have hc2465 : (gN_ σ568 151) < gN_ σ2442 151 := Nat.lt_of_lt_of_le hc2416 (hx1.2.1 151)
  have hc2466 : (gN_ σ617 152) < gN_ σ2442 152 := Nat.lt_of_lt_of_le hc2417 (hx1.2.1 152)
  have hc2467 : (gN_ σ668 153) < gN_ σ2442 153 := Nat.lt_of_lt_of_le hc2418 (hx1.2.1 153)
  have hc2468 : (gN_ σ721 154) < gN_ σ2442 154 := Nat.lt_of_lt_of_le hc2419 (hx1.2.1 154)
  have hc2469 : (gN_ σ776 155) < gN_ σ2442 155 := Nat.lt_of_lt_of_le hc2420 (hx1.2.1 155)
  have hc2470 : (gN_ σ833 156) < gN_ σ2442 156 := Nat.lt_of_lt_of_le hc2421 (hx1.2.1 156)
  have hc2471 : (gN_ σ892 157) < gN_ σ2442 157 := Nat.lt_of_lt_of_le hc2422 (hx1.2.1 157)
  have hc2472 : (gN_ σ953 158) < gN_ σ2442 158 := Nat.lt_of_lt_of_le hc2423 (hx1.2.1 158)
  have hc2473 : (gN_ σ1016 163) < gN_ σ2442 163 := Nat.lt_of_lt_of_le hc2424 (hx1.2.1 163)
  have hc2474 : (gN_ σ1081 164) < gN_ σ2442 164 := Nat.lt_of_lt_of_le hc2425 (hx1.2.1 164)
  have hc2475 : (gN_ σ1148 165) < gN_ σ2442 165 := Nat.lt_of_lt_of_le hc2426 (hx1.2.1 165)
  have hc2476 : (gN_ σ1217 166) < gN_ σ2442 166 := Nat.lt_of_lt_of_le hc2427 (hx1.2.1 166)
  have hc2477 : (gN_ σ1288 171) < gN_ σ2442 171 := Nat.lt_of_lt_of_le hc2428 (hx1.2.1 171)
  have hc2478 : (gN_ σ1361 175) < gN_ σ2442 175 := Nat.lt_of_lt_of_le hc2429 (hx1.2.1 175)
  have hc2479 : (gN_ σ1436 176) < gN_ σ2442 176 := Nat.lt_of_lt_of_le hc2430 (hx1.2.1 176)
  have hc2480 : (gN_ σ1513 177) < gN_ σ2442 177 := Nat.lt_of_lt_of_le hc2431 (hx1.2.1 177)
  have hc2481 : (gN_ σ1592 178) < gN_ σ2442 178 := Nat.lt_of_lt_of_le hc2432 (hx1.2.1 178)
  have hc2482 : (gN_ σ1673 179) < gN_ σ2442 179 := Nat.lt_of_lt_of_le hc2433 (hx1.2.1 179)
  have hc2483 : (gN_ σ1756 182) < gN_ σ2442 182 := Nat.lt_of_lt_of_le hc2434 (hx1.2.1 182)
  have hc2484 : (gN_ σ1841 187) < gN_ σ2442 187 := Nat.lt_of_lt_of_le hc2435 (hx1.2.1 187)
  have hc2485 : (gN_ σ1928 188) < gN_ σ2442 188 := Nat.lt_of_lt_of_le hc2436 (hx1.2.1 188)
  have hc2486 : (gN_ σ2017 189) < gN_ σ2442 189 := Nat.lt_of_lt_of_le hc2437 (hx1.2.1 189)
  have hc2487 : (gN_ σ2108 190) < gN_ σ2442 190 := Nat.lt_of_lt_of_le hc2438 (hx1.2.1 190)
  have hc2488 : (gN_ σ2201 193) < gN_ σ2442 193 := Nat.lt_of_lt_of_le hc2439 (hx1.2.1 193)
  have hc2489 : (gN_ σ2296 194) < gN_ σ2442 194 := Nat.lt_of_lt_of_le hc2440 (hx1.2.1 194)
  have hc2490 : gN_ σ2393 195 < gN_ σ2442 195 := by rw [e2443]; exact nA_lt rfl
  rw [show ow_ 195 = 195 from rfl]
  have hl : lv_has ls 2 [(0, .ref (L 109 0))] := by rw [hx1.at hp2441 (by decide)]; exact hl
  refine ww_stk (st1 := [.ref (L 195 (gN_ σ2393 195)), .ref (L 109 0)]) (by rw [hx1.at hp2441 (by decide)]) ?_
  have hx0 := hx0.trans hx1
  obtain ⟨hc2491, hs⟩ := ww_chk hs
  have hpq : pr σ2442 195 (gN_ σ2393 195) := (pr_dy hc2490 rfl rfl)
  rw [hc2491] at hpq
  obtain ⟨σ2492, e2493, hs⟩ := ww_let hs
  refine ww_markF (d := (1, 195, 0)) hx hb hts hown (hnm.trans rfl) hW 109 0 85 0 (pr_dy hc2444 rfl rfl) (tgd_1 hpq) (obv_0 rfl) rfl (by decide) (Nat.le_of_ble_eq_true rfl) in_X10 tyX10_ok nmX10 rfl (Nat.le_of_ble_eq_true rfl) (hts _ q1778) (fun _ h => h) rfl rfl rfl (fun _ => rfl) (fun _ => rfl) (by rw [hc2491]; rfl) dX10_init_375 (fun H locs hW => ?_)
  have hW : wv g L σ2492 s H locs := by rw [e2493]; exact hW
  obtain ⟨hx0, hcs⟩ := lx_s (σ1 := σ2492) hx0 hcs (by rw [e2493]; exact (kp_M (by decide)))
  have hc2494 : 0 < gN_ σ2492 109 := by rw [e2493]; exact hc2444
  have hc2495 : (gN_ σ 112) < gN_ σ2492 112 := by rw [e2493]; exact hc2445
  have hc2496 : (gN_ σ17 113) < gN_ σ2492 113 := by rw [e2493]; exact hc2446
  have hc2497 : (gN_ σ28 114) < gN_ σ2492 114 := by rw [e2493]; exact hc2447
  have hc2498 : (gN_ σ41 115) < gN_ σ2492 115 := by rw [e2493]; exact hc2448
  have hc2499 : (gN_ σ56 116) < gN_ σ2492 116 := by rw [e2493]; exact hc2449
  have hc2500 : (gN_ σ73 117) < gN_ σ2492 117 := by rw [e2493]; exact hc2450
  have hc2501 : (gN_ σ92 118) < gN_ σ2492 118 := by rw [e2493]; exact hc2451
  have hc2502 : (gN_ σ113 119) < gN_ σ2492 119 := by rw [e2493]; exact hc2452
  have hc2503 : (gN_ σ136 127) < gN_ σ2492 127 := by rw [e2493]; exact hc2453
  have hc2504 : (gN_ σ161 128) < gN_ σ2492 128 := by rw [e2493]; exact hc2454
  have hc2505 : (gN_ σ188 129) < gN_ σ2492 129 := by rw [e2493]; exact hc2455
  have hc2506 : (gN_ σ217 130) < gN_ σ2492 130 := by rw [e2493]; exact hc2456
  have hc2507 : (gN_ σ248 131) < gN_ σ2492 131 := by rw [e2493]; exact hc2457
  have hc2508 : (gN_ σ281 137) < gN_ σ2492 137 := by rw [e2493]; exact hc2458
  have hc2509 : (gN_ σ316 138) < gN_ σ2492 138 := by rw [e2493]; exact hc2459
  have hc2510 : (gN_ σ353 145) < gN_ σ2492 145 := by rw [e2493]; exact hc2460
  have hc2511 : (gN_ σ392 146) < gN_ σ2492 146 := by rw [e2493]; exact hc2461
  have hc2512 : (gN_ σ433 147) < gN_ σ2492 147 := by rw [e2493]; exact hc2462
  have hc2513 : (gN_ σ476 148) < gN_ σ2492 148 := by rw [e2493]; exact hc2463
  have hc2514 : (gN_ σ521 150) < gN_ σ2492 150 := by rw [e2493]; exact hc2464
  have hc2515 : (gN_ σ568 151) < gN_ σ2492 151 := by rw [e2493]; exact hc2465
  have hc2516 : (gN_ σ617 152) < gN_ σ2492 152 := by rw [e2493]; exact hc2466
  have hc2517 : (gN_ σ668 153) < gN_ σ2492 153 := by rw [e2493]; exact hc2467
  have hc2518 : (gN_ σ721 154) < gN_ σ2492 154 := by rw [e2493]; exact hc2468
  have hc2519 : (gN_ σ776 155) < gN_ σ2492 155 := by rw [e2493]; exact hc2469
  have hc2520 : (gN_ σ833 156) < gN_ σ2492 156 := by rw [e2493]; exact hc2470
  have hc2521 : (gN_ σ892 157) < gN_ σ2492 157 := by rw [e2493]; exact hc2471
  have hc2522 : (gN_ σ953 158) < gN_ σ2492 158 := by rw [e2493]; exact hc2472
  have hc2523 : (gN_ σ1016 163) < gN_ σ2492 163 := by rw [e2493]; exact hc2473
  have hc2524 : (gN_ σ1081 164) < gN_ σ2492 164 := by rw [e2493]; exact hc2474
  have hc2525 : (gN_ σ1148 165) < gN_ σ2492 165 := by rw [e2493]; exact hc2475
  have hc2526 : (gN_ σ1217 166) < gN_ σ2492 166 := by rw [e2493]; exact hc2476
  have hc2527 : (gN_ σ1288 171) < gN_ σ2492 171 := by rw [e2493]; exact hc2477
  have hc2528 : (gN_ σ1361 175) < gN_ σ2492 175 := by rw [e2493]; exact hc2478
  have hc2529 : (gN_ σ1436 176) < gN_ σ2492 176 := by rw [e2493]; exact hc2479
  have hc2530 : (gN_ σ1513 177) < gN_ σ2492 177 := by rw [e2493]; exact hc2480
  have hc2531 : (gN_ σ1592 178) < gN_ σ2492 178 := by rw [e2493]; exact hc2481
  have hc2532 : (gN_ σ1673 179) < gN_ σ2492 179 := by rw [e2493]; exact hc2482
  have hc2533 : (gN_ σ1756 182) < gN_ σ2492 182 := by rw [e2493]; exact hc2483
  have hc2534 : (gN_ σ1841 187) < gN_ σ2492 187 := by rw [e2493]; exact hc2484
  have hc2535 : (gN_ σ1928 188) < gN_ σ2492 188 := by rw [e2493]; exact hc2485
  have hc2536 : (gN_ σ2017 189) < gN_ σ2492 189 := by rw [e2493]; exact hc2486
  have hc2537 : (gN_ σ2108 190) < gN_ σ2492 190 := by rw [e2493]; exact hc2487
  have hc2538 : (gN_ σ2201 193) < gN_ σ2492 193 := by rw [e2493]; exact hc2488
  have hc2539 : (gN_ σ2296 194) < gN_ σ2492 194 := by rw [e2493]; exact hc2489
  have hc2540 : (gN_ σ2393 195) < gN_ σ2492 195 := by rw [e2493]; exact hc2490
  refine lv_aload_n hx hb dX10_init_378 rfl (lv_at hl 0 rfl) ?_
  refine lv_bipush (v := 64) hx hb dX10_init_379 (by decide) ?_
  have hp2541 : pr σ2492 109 0 := (pr_dy hc2494 rfl rfl)
  obtain ⟨σ2542, e2543, hs⟩ := ww_let hs
  obtain ⟨hs, hck⟩ := ww_ck1 hs
  have hrm1 := hcs.room (σ1 := σ2542) (a := 1) (b := 64) (by rw [e2543]; rfl) (by rw [e2543]; rfl) hck
  refine ww_newa (atype := .int) hx hb (hts _ q201) hW 196 0 64 (Or.inl rfl) sole_196 (Or.inr hgm) rfl rfl rfl (by decide) rfl (Nat.le_of_ble_eq_true rfl) hrm1.1 hrm1.2 dX10_init_381 (fun H L hx1 hW => ?_)
  rw [← e2543] at hx1 hW
  have hcs := hcs.more (σ1 := σ2542) (a := 1) (b := 64) (by rw [e2543]; rfl) (by rw [e2543]; rfl)
  have hrm := hrm1
  have hc2544 : 0 < gN_ σ2542 109 := Nat.lt_of_lt_of_le hc2494 (hx1.2.1 109)
  have hc2545 : (gN_ σ 112) < gN_ σ2542 112 := Nat.lt_of_lt_of_le hc2495 (hx1.2.1 112)
  have hc2546 : (gN_ σ17 113) < gN_ σ2542 113 := Nat.lt_of_lt_of_le hc2496 (hx1.2.1 113)
  have hc2547 : (gN_ σ28 114) < gN_ σ2542 114 := Nat.lt_of_lt_of_le hc2497 (hx1.2.1 114)
  have hc2548 : (gN_ σ41 115) < gN_ σ2542 115 := Nat.lt_of_lt_of_le hc2498 (hx1.2.1 115)
  have hc2549 : (gN_ σ56 116) < gN_ σ2542 116 := Nat.lt_of_lt_of_le hc2499 (hx1.2.1 116)
  have hc2550 : (gN_ σ73 117) < gN_ σ2542 117 := Nat.lt_of_lt_of_le hc2500 (hx1.2.1 117)
  have hc2551 : (gN_ σ92 118) < gN_ σ2542 118 := Nat.lt_of_lt_of_le hc2501 (hx1.2.1 118)
  have hc2552 : (gN_ σ113 119) < gN_ σ2542 119 := Nat.lt_of_lt_of_le hc2502 (hx1.2.1 119)
  have hc2553 : (gN_ σ136 127) < gN_ σ2542 127 := Nat.lt_of_lt_of_le hc2503 (hx1.2.1 127)
  have hc2554 : (gN_ σ161 128) < gN_ σ2542 128 := Nat.lt_of_lt_of_le hc2504 (hx1.2.1 128)
  have hc2555 : (gN_ σ188 129) < gN_ σ2542 129 := Nat.lt_of_lt_of_le hc2505 (hx1.2.1 129)
  have hc2556 : (gN_ σ217 130) < gN_ σ2542 130 := Nat.lt_of_lt_of_le hc2506 (hx1.2.1 130)
  have hc2557 : (gN_ σ248 131) < gN_ σ2542 131 := Nat.lt_of_lt_of_le hc2507 (hx1.2.1 131)
  have hc2558 : (gN_ σ281 137) < gN_ σ2542 137 := Nat.lt_of_lt_of_le hc2508 (hx1.2.1 137)
  have hc2559 : (gN_ σ316 138) < gN_ σ2542 138 := Nat.lt_of_lt_of_le hc2509 (hx1.2.1 138)
  have hc2560 : (gN_ σ353 145) < gN_ σ2542 145 := Nat.lt_of_lt_of_le hc2510 (hx1.2.1 145)
  have hc2561 : (gN_ σ392 146) < gN_ σ2542 146 := Nat.lt_of_lt_of_le hc2511 (hx1.2.1 146)
  have hc2562 : (gN_ σ433 147) < gN_ σ2542 147 := Nat.lt_of_lt_of_le hc2512 (hx1.2.1 147)
  have hc2563 : (gN_ σ476 148) < gN_ σ2542 148 := Nat.lt_of_lt_of_le hc2513 (hx1.2.1 148)
  have hc2564 : (gN_ σ521 150) < gN_ σ2542 150 := Nat.lt_of_lt_of_le hc2514 (hx1.2.1 150)
  have hc2565 : (gN_ σ568 151) < gN_ σ2542 151 := Nat.lt_of_lt_of_le hc2515 (hx1.2.1 151)
  have hc2566 : (gN_ σ617 152) < gN_ σ2542 152 := Nat.lt_of_lt_of_le hc2516 (hx1.2.1 152)
  have hc2567 : (gN_ σ668 153) < gN_ σ2542 153 := Nat.lt_of_lt_of_le hc2517 (hx1.2.1 153)
  have hc2568 : (gN_ σ721 154) < gN_ σ2542 154 := Nat.lt_of_lt_of_le hc2518 (hx1.2.1 154)
  have hc2569 : (gN_ σ776 155) < gN_ σ2542 155 := Nat.lt_of_lt_of_le hc2519 (hx1.2.1 155)
  have hc2570 : (gN_ σ833 156) < gN_ σ2542 156 := Nat.lt_of_lt_of_le hc2520 (hx1.2.1 156)
  have hc2571 : (gN_ σ892 157) < gN_ σ2542 157 := Nat.lt_of_lt_of_le hc2521 (hx1.2.1 157)
  have hc2572 : (gN_ σ953 158) < gN_ σ2542 158 := Nat.lt_of_lt_of_le hc2522 (hx1.2.1 158)
  have hc2573 : (gN_ σ1016 163) < gN_ σ2542 163 := Nat.lt_of_lt_of_le hc2523 (hx1.2.1 163)
  have hc2574 : (gN_ σ1081 164) < gN_ σ2542 164 := Nat.lt_of_lt_of_le hc2524 (hx1.2.1 164)
  have hc2575 : (gN_ σ1148 165) < gN_ σ2542 165 := Nat.lt_of_lt_of_le hc2525 (hx1.2.1 165)
  have hc2576 : (gN_ σ1217 166) < gN_ σ2542 166 := Nat.lt_of_lt_of_le hc2526 (hx1.2.1 166)
  have hc2577 : (gN_ σ1288 171) < gN_ σ2542 171 := Nat.lt_of_lt_of_le hc2527 (hx1.2.1 171)
  have hc2578 : (gN_ σ1361 175) < gN_ σ2542 175 := Nat.lt_of_lt_of_le hc2528 (hx1.2.1 175)
  have hc2579 : (gN_ σ1436 176) < gN_ σ2542 176 := Nat.lt_of_lt_of_le hc2529 (hx1.2.1 176)
  have hc2580 : (gN_ σ1513 177) < gN_ σ2542 177 := Nat.lt_of_lt_of_le hc2530 (hx1.2.1 177)
  have hc2581 : (gN_ σ1592 178) < gN_ σ2542 178 := Nat.lt_of_lt_of_le hc2531 (hx1.2.1 178)
  have hc2582 : (gN_ σ1673 179) < gN_ σ2542 179 := Nat.lt_of_lt_of_le hc2532 (hx1.2.1 179)
  have hc2583 : (gN_ σ1756 182) < gN_ σ2542 182 := Nat.lt_of_lt_of_le hc2533 (hx1.2.1 182)
  have hc2584 : (gN_ σ1841 187) < gN_ σ2542 187 := Nat.lt_of_lt_of_le hc2534 (hx1.2.1 187)
  have hc2585 : (gN_ σ1928 188) < gN_ σ2542 188 := Nat.lt_of_lt_of_le hc2535 (hx1.2.1 188)
  have hc2586 : (gN_ σ2017 189) < gN_ σ2542 189 := Nat.lt_of_lt_of_le hc2536 (hx1.2.1 189)
  have hc2587 : (gN_ σ2108 190) < gN_ σ2542 190 := Nat.lt_of_lt_of_le hc2537 (hx1.2.1 190)
  have hc2588 : (gN_ σ2201 193) < gN_ σ2542 193 := Nat.lt_of_lt_of_le hc2538 (hx1.2.1 193)
  have hc2589 : (gN_ σ2296 194) < gN_ σ2542 194 := Nat.lt_of_lt_of_le hc2539 (hx1.2.1 194)
  have hc2590 : (gN_ σ2393 195) < gN_ σ2542 195 := Nat.lt_of_lt_of_le hc2540 (hx1.2.1 195)
  have hc2591 : gN_ σ2492 196 < gN_ σ2542 196 := by rw [e2543]; exact nA_lt rfl
  rw [show ow_ 196 = 196 from rfl]
  have hl : lv_has ls 2 [(0, .ref (L 109 0))] := by rw [hx1.at hp2541 (by decide)]; exact hl
  refine ww_stk (st1 := [.ref (L 196 (gN_ σ2492 196)), .ref (L 109 0)]) (by rw [hx1.at hp2541 (by decide)]) ?_
  have hx0 := hx0.trans hx1
  obtain ⟨hc2592, hs⟩ := ww_chk hs
  have hpq : pr σ2542 196 (gN_ σ2492 196) := (pr_dy hc2591 rfl rfl)
  rw [hc2592] at hpq
  obtain ⟨σ2593, e2594, hs⟩ := ww_let hs
  refine ww_markF (d := (1, 196, 0)) hx hb hts hown (hnm.trans rfl) hW 109 0 86 0 (pr_dy hc2544 rfl rfl) (tgd_1 hpq) (obv_0 rfl) rfl (by decide) (Nat.le_of_ble_eq_true rfl) in_X10 tyX10_ok nmX10 rfl (Nat.le_of_ble_eq_true rfl) (hts _ q1779) (fun _ h => h) rfl rfl rfl (fun _ => rfl) (fun _ => rfl) (by rw [hc2592]; rfl) dX10_init_383 (fun H locs hW => ?_)
  have hW : wv g L σ2593 s H locs := by rw [e2594]; exact hW
  obtain ⟨hx0, hcs⟩ := lx_s (σ1 := σ2593) hx0 hcs (by rw [e2594]; exact (kp_M (by decide)))
  have hc2595 : 0 < gN_ σ2593 109 := by rw [e2594]; exact hc2544
  have hc2596 : (gN_ σ 112) < gN_ σ2593 112 := by rw [e2594]; exact hc2545
  have hc2597 : (gN_ σ17 113) < gN_ σ2593 113 := by rw [e2594]; exact hc2546
  have hc2598 : (gN_ σ28 114) < gN_ σ2593 114 := by rw [e2594]; exact hc2547
  have hc2599 : (gN_ σ41 115) < gN_ σ2593 115 := by rw [e2594]; exact hc2548
  have hc2600 : (gN_ σ56 116) < gN_ σ2593 116 := by rw [e2594]; exact hc2549
  have hc2601 : (gN_ σ73 117) < gN_ σ2593 117 := by rw [e2594]; exact hc2550
  have hc2602 : (gN_ σ92 118) < gN_ σ2593 118 := by rw [e2594]; exact hc2551
  have hc2603 : (gN_ σ113 119) < gN_ σ2593 119 := by rw [e2594]; exact hc2552
  have hc2604 : (gN_ σ136 127) < gN_ σ2593 127 := by rw [e2594]; exact hc2553
  have hc2605 : (gN_ σ161 128) < gN_ σ2593 128 := by rw [e2594]; exact hc2554
  have hc2606 : (gN_ σ188 129) < gN_ σ2593 129 := by rw [e2594]; exact hc2555
  have hc2607 : (gN_ σ217 130) < gN_ σ2593 130 := by rw [e2594]; exact hc2556
  have hc2608 : (gN_ σ248 131) < gN_ σ2593 131 := by rw [e2594]; exact hc2557
  have hc2609 : (gN_ σ281 137) < gN_ σ2593 137 := by rw [e2594]; exact hc2558
  have hc2610 : (gN_ σ316 138) < gN_ σ2593 138 := by rw [e2594]; exact hc2559
  have hc2611 : (gN_ σ353 145) < gN_ σ2593 145 := by rw [e2594]; exact hc2560
  have hc2612 : (gN_ σ392 146) < gN_ σ2593 146 := by rw [e2594]; exact hc2561
  have hc2613 : (gN_ σ433 147) < gN_ σ2593 147 := by rw [e2594]; exact hc2562
  have hc2614 : (gN_ σ476 148) < gN_ σ2593 148 := by rw [e2594]; exact hc2563
  have hc2615 : (gN_ σ521 150) < gN_ σ2593 150 := by rw [e2594]; exact hc2564
  have hc2616 : (gN_ σ568 151) < gN_ σ2593 151 := by rw [e2594]; exact hc2565
  have hc2617 : (gN_ σ617 152) < gN_ σ2593 152 := by rw [e2594]; exact hc2566
  have hc2618 : (gN_ σ668 153) < gN_ σ2593 153 := by rw [e2594]; exact hc2567
  have hc2619 : (gN_ σ721 154) < gN_ σ2593 154 := by rw [e2594]; exact hc2568
  have hc2620 : (gN_ σ776 155) < gN_ σ2593 155 := by rw [e2594]; exact hc2569
  have hc2621 : (gN_ σ833 156) < gN_ σ2593 156 := by rw [e2594]; exact hc2570
  have hc2622 : (gN_ σ892 157) < gN_ σ2593 157 := by rw [e2594]; exact hc2571
  have hc2623 : (gN_ σ953 158) < gN_ σ2593 158 := by rw [e2594]; exact hc2572
  have hc2624 : (gN_ σ1016 163) < gN_ σ2593 163 := by rw [e2594]; exact hc2573
  have hc2625 : (gN_ σ1081 164) < gN_ σ2593 164 := by rw [e2594]; exact hc2574
  have hc2626 : (gN_ σ1148 165) < gN_ σ2593 165 := by rw [e2594]; exact hc2575
  have hc2627 : (gN_ σ1217 166) < gN_ σ2593 166 := by rw [e2594]; exact hc2576
  have hc2628 : (gN_ σ1288 171) < gN_ σ2593 171 := by rw [e2594]; exact hc2577
  have hc2629 : (gN_ σ1361 175) < gN_ σ2593 175 := by rw [e2594]; exact hc2578
  have hc2630 : (gN_ σ1436 176) < gN_ σ2593 176 := by rw [e2594]; exact hc2579
  have hc2631 : (gN_ σ1513 177) < gN_ σ2593 177 := by rw [e2594]; exact hc2580
  have hc2632 : (gN_ σ1592 178) < gN_ σ2593 178 := by rw [e2594]; exact hc2581
  have hc2633 : (gN_ σ1673 179) < gN_ σ2593 179 := by rw [e2594]; exact hc2582
  have hc2634 : (gN_ σ1756 182) < gN_ σ2593 182 := by rw [e2594]; exact hc2583
  have hc2635 : (gN_ σ1841 187) < gN_ σ2593 187 := by rw [e2594]; exact hc2584
  have hc2636 : (gN_ σ1928 188) < gN_ σ2593 188 := by rw [e2594]; exact hc2585
  have hc2637 : (gN_ σ2017 189) < gN_ σ2593 189 := by rw [e2594]; exact hc2586
  have hc2638 : (gN_ σ2108 190) < gN_ σ2593 190 := by rw [e2594]; exact hc2587
  have hc2639 : (gN_ σ2201 193) < gN_ σ2593 193 := by rw [e2594]; exact hc2588
  have hc2640 : (gN_ σ2296 194) < gN_ σ2593 194 := by rw [e2594]; exact hc2589
  have hc2641 : (gN_ σ2393 195) < gN_ σ2593 195 := by rw [e2594]; exact hc2590
  have hc2642 : (gN_ σ2492 196) < gN_ σ2593 196 := by rw [e2594]; exact hc2591
  refine lv_aload_n hx hb dX10_init_386 rfl (lv_at hl 0 rfl) ?_
  refine lv_iconst (v := 4) hx hb dX10_init_387 (by decide) ?_
  have hp2643 : pr σ2593 109 0 := (pr_dy hc2595 rfl rfl)
  obtain ⟨σ2644, e2645, hs⟩ := ww_let hs
  obtain ⟨hs, hck⟩ := ww_ck1 hs
  have hrm1 := hcs.room (σ1 := σ2644) (a := 1) (b := 4) (by rw [e2645]; rfl) (by rw [e2645]; rfl) hck
  refine ww_newa (atype := .int) hx hb (hts _ q201) hW 197 0 4 (Or.inl rfl) sole_197 (Or.inr hgm) rfl rfl rfl (by decide) rfl (Nat.le_of_ble_eq_true rfl) hrm1.1 hrm1.2 dX10_init_388 (fun H L hx1 hW => ?_)
  rw [← e2645] at hx1 hW
  have hcs := hcs.more (σ1 := σ2644) (a := 1) (b := 4) (by rw [e2645]; rfl) (by rw [e2645]; rfl)
  have hrm := hrm1
  have hc2646 : 0 < gN_ σ2644 109 := Nat.lt_of_lt_of_le hc2595 (hx1.2.1 109)
  have hc2647 : (gN_ σ 112) < gN_ σ2644 112 := Nat.lt_of_lt_of_le hc2596 (hx1.2.1 112)
  have hc2648 : (gN_ σ17 113) < gN_ σ2644 113 := Nat.lt_of_lt_of_le hc2597 (hx1.2.1 113)
  have hc2649 : (gN_ σ28 114) < gN_ σ2644 114 := Nat.lt_of_lt_of_le hc2598 (hx1.2.1 114)
  have hc2650 : (gN_ σ41 115) < gN_ σ2644 115 := Nat.lt_of_lt_of_le hc2599 (hx1.2.1 115)
  have hc2651 : (gN_ σ56 116) < gN_ σ2644 116 := Nat.lt_of_lt_of_le hc2600 (hx1.2.1 116)
  have hc2652 : (gN_ σ73 117) < gN_ σ2644 117 := Nat.lt_of_lt_of_le hc2601 (hx1.2.1 117)
  have hc2653 : (gN_ σ92 118) < gN_ σ2644 118 := Nat.lt_of_lt_of_le hc2602 (hx1.2.1 118)
  have hc2654 : (gN_ σ113 119) < gN_ σ2644 119 := Nat.lt_of_lt_of_le hc2603 (hx1.2.1 119)
  have hc2655 : (gN_ σ136 127) < gN_ σ2644 127 := Nat.lt_of_lt_of_le hc2604 (hx1.2.1 127)
  have hc2656 : (gN_ σ161 128) < gN_ σ2644 128 := Nat.lt_of_lt_of_le hc2605 (hx1.2.1 128)
  have hc2657 : (gN_ σ188 129) < gN_ σ2644 129 := Nat.lt_of_lt_of_le hc2606 (hx1.2.1 129)
  have hc2658 : (gN_ σ217 130) < gN_ σ2644 130 := Nat.lt_of_lt_of_le hc2607 (hx1.2.1 130)
  have hc2659 : (gN_ σ248 131) < gN_ σ2644 131 := Nat.lt_of_lt_of_le hc2608 (hx1.2.1 131)
  have hc2660 : (gN_ σ281 137) < gN_ σ2644 137 := Nat.lt_of_lt_of_le hc2609 (hx1.2.1 137)
  have hc2661 : (gN_ σ316 138) < gN_ σ2644 138 := Nat.lt_of_lt_of_le hc2610 (hx1.2.1 138)
  have hc2662 : (gN_ σ353 145) < gN_ σ2644 145 := Nat.lt_of_lt_of_le hc2611 (hx1.2.1 145)
  have hc2663 : (gN_ σ392 146) < gN_ σ2644 146 := Nat.lt_of_lt_of_le hc2612 (hx1.2.1 146)
  have hc2664 : (gN_ σ433 147) < gN_ σ2644 147 := Nat.lt_of_lt_of_le hc2613 (hx1.2.1 147)
  have hc2665 : (gN_ σ476 148) < gN_ σ2644 148 := Nat.lt_of_lt_of_le hc2614 (hx1.2.1 148)
  have hc2666 : (gN_ σ521 150) < gN_ σ2644 150 := Nat.lt_of_lt_of_le hc2615 (hx1.2.1 150)
  have hc2667 : (gN_ σ568 151) < gN_ σ2644 151 := Nat.lt_of_lt_of_le hc2616 (hx1.2.1 151)
  have hc2668 : (gN_ σ617 152) < gN_ σ2644 152 := Nat.lt_of_lt_of_le hc2617 (hx1.2.1 152)
  have hc2669 : (gN_ σ668 153) < gN_ σ2644 153 := Nat.lt_of_lt_of_le hc2618 (hx1.2.1 153)
  have hc2670 : (gN_ σ721 154) < gN_ σ2644 154 := Nat.lt_of_lt_of_le hc2619 (hx1.2.1 154)
  have hc2671 : (gN_ σ776 155) < gN_ σ2644 155 := Nat.lt_of_lt_of_le hc2620 (hx1.2.1 155)
  have hc2672 : (gN_ σ833 156) < gN_ σ2644 156 := Nat.lt_of_lt_of_le hc2621 (hx1.2.1 156)
  have hc2673 : (gN_ σ892 157) < gN_ σ2644 157 := Nat.lt_of_lt_of_le hc2622 (hx1.2.1 157)
  have hc2674 : (gN_ σ953 158) < gN_ σ2644 158 := Nat.lt_of_lt_of_le hc2623 (hx1.2.1 158)
  have hc2675 : (gN_ σ1016 163) < gN_ σ2644 163 := Nat.lt_of_lt_of_le hc2624 (hx1.2.1 163)
  have hc2676 : (gN_ σ1081 164) < gN_ σ2644 164 := Nat.lt_of_lt_of_le hc2625 (hx1.2.1 164)
  have hc2677 : (gN_ σ1148 165) < gN_ σ2644 165 := Nat.lt_of_lt_of_le hc2626 (hx1.2.1 165)
  have hc2678 : (gN_ σ1217 166) < gN_ σ2644 166 := Nat.lt_of_lt_of_le hc2627 (hx1.2.1 166)
  have hc2679 : (gN_ σ1288 171) < gN_ σ2644 171 := Nat.lt_of_lt_of_le hc2628 (hx1.2.1 171)
  have hc2680 : (gN_ σ1361 175) < gN_ σ2644 175 := Nat.lt_of_lt_of_le hc2629 (hx1.2.1 175)
  have hc2681 : (gN_ σ1436 176) < gN_ σ2644 176 := Nat.lt_of_lt_of_le hc2630 (hx1.2.1 176)
  have hc2682 : (gN_ σ1513 177) < gN_ σ2644 177 := Nat.lt_of_lt_of_le hc2631 (hx1.2.1 177)
  have hc2683 : (gN_ σ1592 178) < gN_ σ2644 178 := Nat.lt_of_lt_of_le hc2632 (hx1.2.1 178)
  have hc2684 : (gN_ σ1673 179) < gN_ σ2644 179 := Nat.lt_of_lt_of_le hc2633 (hx1.2.1 179)
  have hc2685 : (gN_ σ1756 182) < gN_ σ2644 182 := Nat.lt_of_lt_of_le hc2634 (hx1.2.1 182)
  have hc2686 : (gN_ σ1841 187) < gN_ σ2644 187 := Nat.lt_of_lt_of_le hc2635 (hx1.2.1 187)
  have hc2687 : (gN_ σ1928 188) < gN_ σ2644 188 := Nat.lt_of_lt_of_le hc2636 (hx1.2.1 188)
  have hc2688 : (gN_ σ2017 189) < gN_ σ2644 189 := Nat.lt_of_lt_of_le hc2637 (hx1.2.1 189)
  have hc2689 : (gN_ σ2108 190) < gN_ σ2644 190 := Nat.lt_of_lt_of_le hc2638 (hx1.2.1 190)
  have hc2690 : (gN_ σ2201 193) < gN_ σ2644 193 := Nat.lt_of_lt_of_le hc2639 (hx1.2.1 193)
  have hc2691 : (gN_ σ2296 194) < gN_ σ2644 194 := Nat.lt_of_lt_of_le hc2640 (hx1.2.1 194)
  have hc2692 : (gN_ σ2393 195) < gN_ σ2644 195 := Nat.lt_of_lt_of_le hc2641 (hx1.2.1 195)
  have hc2693 : (gN_ σ2492 196) < gN_ σ2644 196 := Nat.lt_of_lt_of_le hc2642 (hx1.2.1 196)
  have hc2694 : gN_ σ2593 197 < gN_ σ2644 197 := by rw [e2645]; exact nA_lt rfl
  rw [show ow_ 197 = 197 from rfl]
  have hl : lv_has ls 2 [(0, .ref (L 109 0))] := by rw [hx1.at hp2643 (by decide)]; exact hl
  refine ww_stk (st1 := [.ref (L 197 (gN_ σ2593 197)), .ref (L 109 0)]) (by rw [hx1.at hp2643 (by decide)]) ?_
  have hx0 := hx0.trans hx1
  obtain ⟨hc2695, hs⟩ := ww_chk hs
  have hpq : pr σ2644 197 (gN_ σ2593 197) := (pr_dy hc2694 rfl rfl)
  rw [hc2695] at hpq
  obtain ⟨σ2696, e2697, hs⟩ := ww_let hs
  refine ww_markF (d := (1, 197, 0)) hx hb hts hown (hnm.trans rfl) hW 109 0 87 0 (pr_dy hc2646 rfl rfl) (tgd_1 hpq) (obv_0 rfl) rfl (by decide) (Nat.le_of_ble_eq_true rfl) in_X10 tyX10_ok nmX10 rfl (Nat.le_of_ble_eq_true rfl) (hts _ q1780) (fun _ h => h) rfl rfl rfl (fun _ => rfl) (fun _ => rfl) (by rw [hc2695]; rfl) dX10_init_390 (fun H locs hW => ?_)
  have hW : wv g L σ2696 s H locs := by rw [e2697]; exact hW
  obtain ⟨hx0, hcs⟩ := lx_s (σ1 := σ2696) hx0 hcs (by rw [e2697]; exact (kp_M (by decide)))
  have hc2698 : 0 < gN_ σ2696 109 := by rw [e2697]; exact hc2646
  have hc2699 : (gN_ σ 112) < gN_ σ2696 112 := by rw [e2697]; exact hc2647
  have hc2700 : (gN_ σ17 113) < gN_ σ2696 113 := by rw [e2697]; exact hc2648
  have hc2701 : (gN_ σ28 114) < gN_ σ2696 114 := by rw [e2697]; exact hc2649
  have hc2702 : (gN_ σ41 115) < gN_ σ2696 115 := by rw [e2697]; exact hc2650
  have hc2703 : (gN_ σ56 116) < gN_ σ2696 116 := by rw [e2697]; exact hc2651
  have hc2704 : (gN_ σ73 117) < gN_ σ2696 117 := by rw [e2697]; exact hc2652
  have hc2705 : (gN_ σ92 118) < gN_ σ2696 118 := by rw [e2697]; exact hc2653
  have hc2706 : (gN_ σ113 119) < gN_ σ2696 119 := by rw [e2697]; exact hc2654
  have hc2707 : (gN_ σ136 127) < gN_ σ2696 127 := by rw [e2697]; exact hc2655
  have hc2708 : (gN_ σ161 128) < gN_ σ2696 128 := by rw [e2697]; exact hc2656
  have hc2709 : (gN_ σ188 129) < gN_ σ2696 129 := by rw [e2697]; exact hc2657
  have hc2710 : (gN_ σ217 130) < gN_ σ2696 130 := by rw [e2697]; exact hc2658
  have hc2711 : (gN_ σ248 131) < gN_ σ2696 131 := by rw [e2697]; exact hc2659
  have hc2712 : (gN_ σ281 137) < gN_ σ2696 137 := by rw [e2697]; exact hc2660
  have hc2713 : (gN_ σ316 138) < gN_ σ2696 138 := by rw [e2697]; exact hc2661
  have hc2714 : (gN_ σ353 145) < gN_ σ2696 145 := by rw [e2697]; exact hc2662
  have hc2715 : (gN_ σ392 146) < gN_ σ2696 146 := by rw [e2697]; exact hc2663
  have hc2716 : (gN_ σ433 147) < gN_ σ2696 147 := by rw [e2697]; exact hc2664
  have hc2717 : (gN_ σ476 148) < gN_ σ2696 148 := by rw [e2697]; exact hc2665
  have hc2718 : (gN_ σ521 150) < gN_ σ2696 150 := by rw [e2697]; exact hc2666
  have hc2719 : (gN_ σ568 151) < gN_ σ2696 151 := by rw [e2697]; exact hc2667
  have hc2720 : (gN_ σ617 152) < gN_ σ2696 152 := by rw [e2697]; exact hc2668
  have hc2721 : (gN_ σ668 153) < gN_ σ2696 153 := by rw [e2697]; exact hc2669
  have hc2722 : (gN_ σ721 154) < gN_ σ2696 154 := by rw [e2697]; exact hc2670
  have hc2723 : (gN_ σ776 155) < gN_ σ2696 155 := by rw [e2697]; exact hc2671
  have hc2724 : (gN_ σ833 156) < gN_ σ2696 156 := by rw [e2697]; exact hc2672
  have hc2725 : (gN_ σ892 157) < gN_ σ2696 157 := by rw [e2697]; exact hc2673
  have hc2726 : (gN_ σ953 158) < gN_ σ2696 158 := by rw [e2697]; exact hc2674
  have hc2727 : (gN_ σ1016 163) < gN_ σ2696 163 := by rw [e2697]; exact hc2675
  have hc2728 : (gN_ σ1081 164) < gN_ σ2696 164 := by rw [e2697]; exact hc2676
  have hc2729 : (gN_ σ1148 165) < gN_ σ2696 165 := by rw [e2697]; exact hc2677
  have hc2730 : (gN_ σ1217 166) < gN_ σ2696 166 := by rw [e2697]; exact hc2678
  have hc2731 : (gN_ σ1288 171) < gN_ σ2696 171 := by rw [e2697]; exact hc2679
  have hc2732 : (gN_ σ1361 175) < gN_ σ2696 175 := by rw [e2697]; exact hc2680
  have hc2733 : (gN_ σ1436 176) < gN_ σ2696 176 := by rw [e2697]; exact hc2681
  have hc2734 : (gN_ σ1513 177) < gN_ σ2696 177 := by rw [e2697]; exact hc2682
  have hc2735 : (gN_ σ1592 178) < gN_ σ2696 178 := by rw [e2697]; exact hc2683
  have hc2736 : (gN_ σ1673 179) < gN_ σ2696 179 := by rw [e2697]; exact hc2684
  have hc2737 : (gN_ σ1756 182) < gN_ σ2696 182 := by rw [e2697]; exact hc2685
  have hc2738 : (gN_ σ1841 187) < gN_ σ2696 187 := by rw [e2697]; exact hc2686
  have hc2739 : (gN_ σ1928 188) < gN_ σ2696 188 := by rw [e2697]; exact hc2687
  have hc2740 : (gN_ σ2017 189) < gN_ σ2696 189 := by rw [e2697]; exact hc2688
  have hc2741 : (gN_ σ2108 190) < gN_ σ2696 190 := by rw [e2697]; exact hc2689
  have hc2742 : (gN_ σ2201 193) < gN_ σ2696 193 := by rw [e2697]; exact hc2690
  have hc2743 : (gN_ σ2296 194) < gN_ σ2696 194 := by rw [e2697]; exact hc2691
  have hc2744 : (gN_ σ2393 195) < gN_ σ2696 195 := by rw [e2697]; exact hc2692
  have hc2745 : (gN_ σ2492 196) < gN_ σ2696 196 := by rw [e2697]; exact hc2693
  have hc2746 : (gN_ σ2593 197) < gN_ σ2696 197 := by rw [e2697]; exact hc2694
  refine lv_aload_n hx hb dX10_init_393 rfl (lv_at hl 0 rfl) ?_
  refine lv_bipush (v := 80) hx hb dX10_init_394 (by decide) ?_
  have hp2747 : pr σ2696 109 0 := (pr_dy hc2698 rfl rfl)
  obtain ⟨σ2748, e2749, hs⟩ := ww_let hs
  obtain ⟨hs, hck⟩ := ww_ck1 hs
  have hrm1 := hcs.room (σ1 := σ2748) (a := 1) (b := 80) (by rw [e2749]; rfl) (by rw [e2749]; rfl) hck
  refine ww_newa (atype := .int) hx hb (hts _ q201) hW 198 0 80 (Or.inl rfl) sole_198 (Or.inr hgm) rfl rfl rfl (by decide) rfl (Nat.le_of_ble_eq_true rfl) hrm1.1 hrm1.2 dX10_init_396 (fun H L hx1 hW => ?_)
  rw [← e2749] at hx1 hW
  have hcs := hcs.more (σ1 := σ2748) (a := 1) (b := 80) (by rw [e2749]; rfl) (by rw [e2749]; rfl)
  have hrm := hrm1
  have hc2750 : 0 < gN_ σ2748 109 := Nat.lt_of_lt_of_le hc2698 (hx1.2.1 109)
  have hc2751 : (gN_ σ 112) < gN_ σ2748 112 := Nat.lt_of_lt_of_le hc2699 (hx1.2.1 112)
  have hc2752 : (gN_ σ17 113) < gN_ σ2748 113 := Nat.lt_of_lt_of_le hc2700 (hx1.2.1 113)
  have hc2753 : (gN_ σ28 114) < gN_ σ2748 114 := Nat.lt_of_lt_of_le hc2701 (hx1.2.1 114)
  have hc2754 : (gN_ σ41 115) < gN_ σ2748 115 := Nat.lt_of_lt_of_le hc2702 (hx1.2.1 115)
  have hc2755 : (gN_ σ56 116) < gN_ σ2748 116 := Nat.lt_of_lt_of_le hc2703 (hx1.2.1 116)
  have hc2756 : (gN_ σ73 117) < gN_ σ2748 117 := Nat.lt_of_lt_of_le hc2704 (hx1.2.1 117)
  have hc2757 : (gN_ σ92 118) < gN_ σ2748 118 := Nat.lt_of_lt_of_le hc2705 (hx1.2.1 118)
  have hc2758 : (gN_ σ113 119) < gN_ σ2748 119 := Nat.lt_of_lt_of_le hc2706 (hx1.2.1 119)
  have hc2759 : (gN_ σ136 127) < gN_ σ2748 127 := Nat.lt_of_lt_of_le hc2707 (hx1.2.1 127)
  have hc2760 : (gN_ σ161 128) < gN_ σ2748 128 := Nat.lt_of_lt_of_le hc2708 (hx1.2.1 128)
  have hc2761 : (gN_ σ188 129) < gN_ σ2748 129 := Nat.lt_of_lt_of_le hc2709 (hx1.2.1 129)
  have hc2762 : (gN_ σ217 130) < gN_ σ2748 130 := Nat.lt_of_lt_of_le hc2710 (hx1.2.1 130)
  have hc2763 : (gN_ σ248 131) < gN_ σ2748 131 := Nat.lt_of_lt_of_le hc2711 (hx1.2.1 131)
  have hc2764 : (gN_ σ281 137) < gN_ σ2748 137 := Nat.lt_of_lt_of_le hc2712 (hx1.2.1 137)
  have hc2765 : (gN_ σ316 138) < gN_ σ2748 138 := Nat.lt_of_lt_of_le hc2713 (hx1.2.1 138)
  have hc2766 : (gN_ σ353 145) < gN_ σ2748 145 := Nat.lt_of_lt_of_le hc2714 (hx1.2.1 145)
  have hc2767 : (gN_ σ392 146) < gN_ σ2748 146 := Nat.lt_of_lt_of_le hc2715 (hx1.2.1 146)
  have hc2768 : (gN_ σ433 147) < gN_ σ2748 147 := Nat.lt_of_lt_of_le hc2716 (hx1.2.1 147)
  have hc2769 : (gN_ σ476 148) < gN_ σ2748 148 := Nat.lt_of_lt_of_le hc2717 (hx1.2.1 148)
  have hc2770 : (gN_ σ521 150) < gN_ σ2748 150 := Nat.lt_of_lt_of_le hc2718 (hx1.2.1 150)
  have hc2771 : (gN_ σ568 151) < gN_ σ2748 151 := Nat.lt_of_lt_of_le hc2719 (hx1.2.1 151)
  have hc2772 : (gN_ σ617 152) < gN_ σ2748 152 := Nat.lt_of_lt_of_le hc2720 (hx1.2.1 152)
  have hc2773 : (gN_ σ668 153) < gN_ σ2748 153 := Nat.lt_of_lt_of_le hc2721 (hx1.2.1 153)
  have hc2774 : (gN_ σ721 154) < gN_ σ2748 154 := Nat.lt_of_lt_of_le hc2722 (hx1.2.1 154)
  have hc2775 : (gN_ σ776 155) < gN_ σ2748 155 := Nat.lt_of_lt_of_le hc2723 (hx1.2.1 155)
  have hc2776 : (gN_ σ833 156) < gN_ σ2748 156 := Nat.lt_of_lt_of_le hc2724 (hx1.2.1 156)
  have hc2777 : (gN_ σ892 157) < gN_ σ2748 157 := Nat.lt_of_lt_of_le hc2725 (hx1.2.1 157)
  have hc2778 : (gN_ σ953 158) < gN_ σ2748 158 := Nat.lt_of_lt_of_le hc2726 (hx1.2.1 158)
  have hc2779 : (gN_ σ1016 163) < gN_ σ2748 163 := Nat.lt_of_lt_of_le hc2727 (hx1.2.1 163)
  have hc2780 : (gN_ σ1081 164) < gN_ σ2748 164 := Nat.lt_of_lt_of_le hc2728 (hx1.2.1 164)
  have hc2781 : (gN_ σ1148 165) < gN_ σ2748 165 := Nat.lt_of_lt_of_le hc2729 (hx1.2.1 165)
  have hc2782 : (gN_ σ1217 166) < gN_ σ2748 166 := Nat.lt_of_lt_of_le hc2730 (hx1.2.1 166)
  have hc2783 : (gN_ σ1288 171) < gN_ σ2748 171 := Nat.lt_of_lt_of_le hc2731 (hx1.2.1 171)
  have hc2784 : (gN_ σ1361 175) < gN_ σ2748 175 := Nat.lt_of_lt_of_le hc2732 (hx1.2.1 175)
  have hc2785 : (gN_ σ1436 176) < gN_ σ2748 176 := Nat.lt_of_lt_of_le hc2733 (hx1.2.1 176)
  have hc2786 : (gN_ σ1513 177) < gN_ σ2748 177 := Nat.lt_of_lt_of_le hc2734 (hx1.2.1 177)
  have hc2787 : (gN_ σ1592 178) < gN_ σ2748 178 := Nat.lt_of_lt_of_le hc2735 (hx1.2.1 178)
  have hc2788 : (gN_ σ1673 179) < gN_ σ2748 179 := Nat.lt_of_lt_of_le hc2736 (hx1.2.1 179)
  have hc2789 : (gN_ σ1756 182) < gN_ σ2748 182 := Nat.lt_of_lt_of_le hc2737 (hx1.2.1 182)
  have hc2790 : (gN_ σ1841 187) < gN_ σ2748 187 := Nat.lt_of_lt_of_le hc2738 (hx1.2.1 187)
  have hc2791 : (gN_ σ1928 188) < gN_ σ2748 188 := Nat.lt_of_lt_of_le hc2739 (hx1.2.1 188)
  have hc2792 : (gN_ σ2017 189) < gN_ σ2748 189 := Nat.lt_of_lt_of_le hc2740 (hx1.2.1 189)
  have hc2793 : (gN_ σ2108 190) < gN_ σ2748 190 := Nat.lt_of_lt_of_le hc2741 (hx1.2.1 190)
  have hc2794 : (gN_ σ2201 193) < gN_ σ2748 193 := Nat.lt_of_lt_of_le hc2742 (hx1.2.1 193)
  have hc2795 : (gN_ σ2296 194) < gN_ σ2748 194 := Nat.lt_of_lt_of_le hc2743 (hx1.2.1 194)
  have hc2796 : (gN_ σ2393 195) < gN_ σ2748 195 := Nat.lt_of_lt_of_le hc2744 (hx1.2.1 195)
  have hc2797 : (gN_ σ2492 196) < gN_ σ2748 196 := Nat.lt_of_lt_of_le hc2745 (hx1.2.1 196)
  have hc2798 : (gN_ σ2593 197) < gN_ σ2748 197 := Nat.lt_of_lt_of_le hc2746 (hx1.2.1 197)
  have hc2799 : gN_ σ2696 198 < gN_ σ2748 198 := by rw [e2749]; exact nA_lt rfl
  rw [show ow_ 198 = 198 from rfl]
  have hl : lv_has ls 2 [(0, .ref (L 109 0))] := by rw [hx1.at hp2747 (by decide)]; exact hl
  refine ww_stk (st1 := [.ref (L 198 (gN_ σ2696 198)), .ref (L 109 0)]) (by rw [hx1.at hp2747 (by decide)]) ?_
  have hx0 := hx0.trans hx1
  obtain ⟨hc2800, hs⟩ := ww_chk hs
  have hpq : pr σ2748 198 (gN_ σ2696 198) := (pr_dy hc2799 rfl rfl)
  rw [hc2800] at hpq
  obtain ⟨σ2801, e2802, hs⟩ := ww_let hs
  refine ww_markF (d := (1, 198, 0)) hx hb hts hown (hnm.trans rfl) hW 109 0 88 0 (pr_dy hc2750 rfl rfl) (tgd_1 hpq) (obv_0 rfl) rfl (by decide) (Nat.le_of_ble_eq_true rfl) in_X10 tyX10_ok nmX10 rfl (Nat.le_of_ble_eq_true rfl) (hts _ q1781) (fun _ h => h) rfl rfl rfl (fun _ => rfl) (fun _ => rfl) (by rw [hc2800]; rfl) dX10_init_398 (fun H locs hW => ?_)
  have hW : wv g L σ2801 s H locs := by rw [e2802]; exact hW
  obtain ⟨hx0, hcs⟩ := lx_s (σ1 := σ2801) hx0 hcs (by rw [e2802]; exact (kp_M (by decide)))
  have hc2803 : 0 < gN_ σ2801 109 := by rw [e2802]; exact hc2750
  have hc2804 : (gN_ σ 112) < gN_ σ2801 112 := by rw [e2802]; exact hc2751
  have hc2805 : (gN_ σ17 113) < gN_ σ2801 113 := by rw [e2802]; exact hc2752
  have hc2806 : (gN_ σ28 114) < gN_ σ2801 114 := by rw [e2802]; exact hc2753
  have hc2807 : (gN_ σ41 115) < gN_ σ2801 115 := by rw [e2802]; exact hc2754
  have hc2808 : (gN_ σ56 116) < gN_ σ2801 116 := by rw [e2802]; exact hc2755
  have hc2809 : (gN_ σ73 117) < gN_ σ2801 117 := by rw [e2802]; exact hc2756
  have hc2810 : (gN_ σ92 118) < gN_ σ2801 118 := by rw [e2802]; exact hc2757
  have hc2811 : (gN_ σ113 119) < gN_ σ2801 119 := by rw [e2802]; exact hc2758
  have hc2812 : (gN_ σ136 127) < gN_ σ2801 127 := by rw [e2802]; exact hc2759
  have hc2813 : (gN_ σ161 128) < gN_ σ2801 128 := by rw [e2802]; exact hc2760
  have hc2814 : (gN_ σ188 129) < gN_ σ2801 129 := by rw [e2802]; exact hc2761
  have hc2815 : (gN_ σ217 130) < gN_ σ2801 130 := by rw [e2802]; exact hc2762
  have hc2816 : (gN_ σ248 131) < gN_ σ2801 131 := by rw [e2802]; exact hc2763
  have hc2817 : (gN_ σ281 137) < gN_ σ2801 137 := by rw [e2802]; exact hc2764
  have hc2818 : (gN_ σ316 138) < gN_ σ2801 138 := by rw [e2802]; exact hc2765
  have hc2819 : (gN_ σ353 145) < gN_ σ2801 145 := by rw [e2802]; exact hc2766
  have hc2820 : (gN_ σ392 146) < gN_ σ2801 146 := by rw [e2802]; exact hc2767
  have hc2821 : (gN_ σ433 147) < gN_ σ2801 147 := by rw [e2802]; exact hc2768
  have hc2822 : (gN_ σ476 148) < gN_ σ2801 148 := by rw [e2802]; exact hc2769
  have hc2823 : (gN_ σ521 150) < gN_ σ2801 150 := by rw [e2802]; exact hc2770
  have hc2824 : (gN_ σ568 151) < gN_ σ2801 151 := by rw [e2802]; exact hc2771
  have hc2825 : (gN_ σ617 152) < gN_ σ2801 152 := by rw [e2802]; exact hc2772
  have hc2826 : (gN_ σ668 153) < gN_ σ2801 153 := by rw [e2802]; exact hc2773
  have hc2827 : (gN_ σ721 154) < gN_ σ2801 154 := by rw [e2802]; exact hc2774
  have hc2828 : (gN_ σ776 155) < gN_ σ2801 155 := by rw [e2802]; exact hc2775
  have hc2829 : (gN_ σ833 156) < gN_ σ2801 156 := by rw [e2802]; exact hc2776
  have hc2830 : (gN_ σ892 157) < gN_ σ2801 157 := by rw [e2802]; exact hc2777
  have hc2831 : (gN_ σ953 158) < gN_ σ2801 158 := by rw [e2802]; exact hc2778
  have hc2832 : (gN_ σ1016 163) < gN_ σ2801 163 := by rw [e2802]; exact hc2779
  have hc2833 : (gN_ σ1081 164) < gN_ σ2801 164 := by rw [e2802]; exact hc2780
  have hc2834 : (gN_ σ1148 165) < gN_ σ2801 165 := by rw [e2802]; exact hc2781
  have hc2835 : (gN_ σ1217 166) < gN_ σ2801 166 := by rw [e2802]; exact hc2782
  have hc2836 : (gN_ σ1288 171) < gN_ σ2801 171 := by rw [e2802]; exact hc2783
  have hc2837 : (gN_ σ1361 175) < gN_ σ2801 175 := by rw [e2802]; exact hc2784
  have hc2838 : (gN_ σ1436 176) < gN_ σ2801 176 := by rw [e2802]; exact hc2785
  have hc2839 : (gN_ σ1513 177) < gN_ σ2801 177 := by rw [e2802]; exact hc2786
  have hc2840 : (gN_ σ1592 178) < gN_ σ2801 178 := by rw [e2802]; exact hc2787
  have hc2841 : (gN_ σ1673 179) < gN_ σ2801 179 := by rw [e2802]; exact hc2788
  have hc2842 : (gN_ σ1756 182) < gN_ σ2801 182 := by rw [e2802]; exact hc2789
  have hc2843 : (gN_ σ1841 187) < gN_ σ2801 187 := by rw [e2802]; exact hc2790
  have hc2844 : (gN_ σ1928 188) < gN_ σ2801 188 := by rw [e2802]; exact hc2791
  have hc2845 : (gN_ σ2017 189) < gN_ σ2801 189 := by rw [e2802]; exact hc2792
  have hc2846 : (gN_ σ2108 190) < gN_ σ2801 190 := by rw [e2802]; exact hc2793
  have hc2847 : (gN_ σ2201 193) < gN_ σ2801 193 := by rw [e2802]; exact hc2794
  have hc2848 : (gN_ σ2296 194) < gN_ σ2801 194 := by rw [e2802]; exact hc2795
  have hc2849 : (gN_ σ2393 195) < gN_ σ2801 195 := by rw [e2802]; exact hc2796
  have hc2850 : (gN_ σ2492 196) < gN_ σ2801 196 := by rw [e2802]; exact hc2797
  have hc2851 : (gN_ σ2593 197) < gN_ σ2801 197 := by rw [e2802]; exact hc2798
  have hc2852 : (gN_ σ2696 198) < gN_ σ2801 198 := by rw [e2802]; exact hc2799
  refine lv_aload_n hx hb dX10_init_401 rfl (lv_at hl 0 rfl) ?_
  refine lv_bipush (v := 80) hx hb dX10_init_402 (by decide) ?_
  have hp2853 : pr σ2801 109 0 := (pr_dy hc2803 rfl rfl)
  obtain ⟨σ2854, e2855, hs⟩ := ww_let hs
  obtain ⟨hs, hck⟩ := ww_ck1 hs
  have hrm1 := hcs.room (σ1 := σ2854) (a := 1) (b := 80) (by rw [e2855]; rfl) (by rw [e2855]; rfl) hck
  refine ww_newa (atype := .int) hx hb (hts _ q201) hW 199 0 80 (Or.inl rfl) sole_199 (Or.inr hgm) rfl rfl rfl (by decide) rfl (Nat.le_of_ble_eq_true rfl) hrm1.1 hrm1.2 dX10_init_404 (fun H L hx1 hW => ?_)
  rw [← e2855] at hx1 hW
  have hcs := hcs.more (σ1 := σ2854) (a := 1) (b := 80) (by rw [e2855]; rfl) (by rw [e2855]; rfl)
  have hrm := hrm1
  have hc2856 : 0 < gN_ σ2854 109 := Nat.lt_of_lt_of_le hc2803 (hx1.2.1 109)
  have hc2857 : (gN_ σ 112) < gN_ σ2854 112 := Nat.lt_of_lt_of_le hc2804 (hx1.2.1 112)
  have hc2858 : (gN_ σ17 113) < gN_ σ2854 113 := Nat.lt_of_lt_of_le hc2805 (hx1.2.1 113)
  have hc2859 : (gN_ σ28 114) < gN_ σ2854 114 := Nat.lt_of_lt_of_le hc2806 (hx1.2.1 114)
  have hc2860 : (gN_ σ41 115) < gN_ σ2854 115 := Nat.lt_of_lt_of_le hc2807 (hx1.2.1 115)
  have hc2861 : (gN_ σ56 116) < gN_ σ2854 116 := Nat.lt_of_lt_of_le hc2808 (hx1.2.1 116)
  have hc2862 : (gN_ σ73 117) < gN_ σ2854 117 := Nat.lt_of_lt_of_le hc2809 (hx1.2.1 117)
  have hc2863 : (gN_ σ92 118) < gN_ σ2854 118 := Nat.lt_of_lt_of_le hc2810 (hx1.2.1 118)
  have hc2864 : (gN_ σ113 119) < gN_ σ2854 119 := Nat.lt_of_lt_of_le hc2811 (hx1.2.1 119)
  have hc2865 : (gN_ σ136 127) < gN_ σ2854 127 := Nat.lt_of_lt_of_le hc2812 (hx1.2.1 127)
  have hc2866 : (gN_ σ161 128) < gN_ σ2854 128 := Nat.lt_of_lt_of_le hc2813 (hx1.2.1 128)
  have hc2867 : (gN_ σ188 129) < gN_ σ2854 129 := Nat.lt_of_lt_of_le hc2814 (hx1.2.1 129)
  have hc2868 : (gN_ σ217 130) < gN_ σ2854 130 := Nat.lt_of_lt_of_le hc2815 (hx1.2.1 130)
  have hc2869 : (gN_ σ248 131) < gN_ σ2854 131 := Nat.lt_of_lt_of_le hc2816 (hx1.2.1 131)
  have hc2870 : (gN_ σ281 137) < gN_ σ2854 137 := Nat.lt_of_lt_of_le hc2817 (hx1.2.1 137)
  have hc2871 : (gN_ σ316 138) < gN_ σ2854 138 := Nat.lt_of_lt_of_le hc2818 (hx1.2.1 138)
  have hc2872 : (gN_ σ353 145) < gN_ σ2854 145 := Nat.lt_of_lt_of_le hc2819 (hx1.2.1 145)
  have hc2873 : (gN_ σ392 146) < gN_ σ2854 146 := Nat.lt_of_lt_of_le hc2820 (hx1.2.1 146)
  have hc2874 : (gN_ σ433 147) < gN_ σ2854 147 := Nat.lt_of_lt_of_le hc2821 (hx1.2.1 147)
  have hc2875 : (gN_ σ476 148) < gN_ σ2854 148 := Nat.lt_of_lt_of_le hc2822 (hx1.2.1 148)
  have hc2876 : (gN_ σ521 150) < gN_ σ2854 150 := Nat.lt_of_lt_of_le hc2823 (hx1.2.1 150)
  have hc2877 : (gN_ σ568 151) < gN_ σ2854 151 := Nat.lt_of_lt_of_le hc2824 (hx1.2.1 151)
  have hc2878 : (gN_ σ617 152) < gN_ σ2854 152 := Nat.lt_of_lt_of_le hc2825 (hx1.2.1 152)
  have hc2879 : (gN_ σ668 153) < gN_ σ2854 153 := Nat.lt_of_lt_of_le hc2826 (hx1.2.1 153)
  have hc2880 : (gN_ σ721 154) < gN_ σ2854 154 := Nat.lt_of_lt_of_le hc2827 (hx1.2.1 154)
  have hc2881 : (gN_ σ776 155) < gN_ σ2854 155 := Nat.lt_of_lt_of_le hc2828 (hx1.2.1 155)
  have hc2882 : (gN_ σ833 156) < gN_ σ2854 156 := Nat.lt_of_lt_of_le hc2829 (hx1.2.1 156)
  have hc2883 : (gN_ σ892 157) < gN_ σ2854 157 := Nat.lt_of_lt_of_le hc2830 (hx1.2.1 157)
  have hc2884 : (gN_ σ953 158) < gN_ σ2854 158 := Nat.lt_of_lt_of_le hc2831 (hx1.2.1 158)
  have hc2885 : (gN_ σ1016 163) < gN_ σ2854 163 := Nat.lt_of_lt_of_le hc2832 (hx1.2.1 163)
  have hc2886 : (gN_ σ1081 164) < gN_ σ2854 164 := Nat.lt_of_lt_of_le hc2833 (hx1.2.1 164)
  have hc2887 : (gN_ σ1148 165) < gN_ σ2854 165 := Nat.lt_of_lt_of_le hc2834 (hx1.2.1 165)
  have hc2888 : (gN_ σ1217 166) < gN_ σ2854 166 := Nat.lt_of_lt_of_le hc2835 (hx1.2.1 166)
  have hc2889 : (gN_ σ1288 171) < gN_ σ2854 171 := Nat.lt_of_lt_of_le hc2836 (hx1.2.1 171)
  have hc2890 : (gN_ σ1361 175) < gN_ σ2854 175 := Nat.lt_of_lt_of_le hc2837 (hx1.2.1 175)
  have hc2891 : (gN_ σ1436 176) < gN_ σ2854 176 := Nat.lt_of_lt_of_le hc2838 (hx1.2.1 176)
  have hc2892 : (gN_ σ1513 177) < gN_ σ2854 177 := Nat.lt_of_lt_of_le hc2839 (hx1.2.1 177)
  have hc2893 : (gN_ σ1592 178) < gN_ σ2854 178 := Nat.lt_of_lt_of_le hc2840 (hx1.2.1 178)
  have hc2894 : (gN_ σ1673 179) < gN_ σ2854 179 := Nat.lt_of_lt_of_le hc2841 (hx1.2.1 179)
  have hc2895 : (gN_ σ1756 182) < gN_ σ2854 182 := Nat.lt_of_lt_of_le hc2842 (hx1.2.1 182)
  have hc2896 : (gN_ σ1841 187) < gN_ σ2854 187 := Nat.lt_of_lt_of_le hc2843 (hx1.2.1 187)
  have hc2897 : (gN_ σ1928 188) < gN_ σ2854 188 := Nat.lt_of_lt_of_le hc2844 (hx1.2.1 188)
  have hc2898 : (gN_ σ2017 189) < gN_ σ2854 189 := Nat.lt_of_lt_of_le hc2845 (hx1.2.1 189)
  have hc2899 : (gN_ σ2108 190) < gN_ σ2854 190 := Nat.lt_of_lt_of_le hc2846 (hx1.2.1 190)
  have hc2900 : (gN_ σ2201 193) < gN_ σ2854 193 := Nat.lt_of_lt_of_le hc2847 (hx1.2.1 193)
  have hc2901 : (gN_ σ2296 194) < gN_ σ2854 194 := Nat.lt_of_lt_of_le hc2848 (hx1.2.1 194)
  have hc2902 : (gN_ σ2393 195) < gN_ σ2854 195 := Nat.lt_of_lt_of_le hc2849 (hx1.2.1 195)
  have hc2903 : (gN_ σ2492 196) < gN_ σ2854 196 := Nat.lt_of_lt_of_le hc2850 (hx1.2.1 196)
  have hc2904 : (gN_ σ2593 197) < gN_ σ2854 197 := Nat.lt_of_lt_of_le hc2851 (hx1.2.1 197)
  have hc2905 : (gN_ σ2696 198) < gN_ σ2854 198 := Nat.lt_of_lt_of_le hc2852 (hx1.2.1 198)
  have hc2906 : gN_ σ2801 199 < gN_ σ2854 199 := by rw [e2855]; exact nA_lt rfl
  rw [show ow_ 199 = 199 from rfl]
  have hl : lv_has ls 2 [(0, .ref (L 109 0))] := by rw [hx1.at hp2853 (by decide)]; exact hl
  refine ww_stk (st1 := [.ref (L 199 (gN_ σ2801 199)), .ref (L 109 0)]) (by rw [hx1.at hp2853 (by decide)]) ?_
  have hx0 := hx0.trans hx1
  obtain ⟨hc2907, hs⟩ := ww_chk hs
  have hpq : pr σ2854 199 (gN_ σ2801 199) := (pr_dy hc2906 rfl rfl)
  rw [hc2907] at hpq
  obtain ⟨σ2908, e2909, hs⟩ := ww_let hs
  refine ww_markF (d := (1, 199, 0)) hx hb hts hown (hnm.trans rfl) hW 109 0 89 0 (pr_dy hc2856 rfl rfl) (tgd_1 hpq) (obv_0 rfl) rfl (by decide) (Nat.le_of_ble_eq_true rfl) in_X10 tyX10_ok nmX10 rfl (Nat.le_of_ble_eq_true rfl) (hts _ q1782) (fun _ h => h) rfl rfl rfl (fun _ => rfl) (fun _ => rfl) (by rw [hc2907]; rfl) dX10_init_406 (fun H locs hW => ?_)
  have hW : wv g L σ2908 s H locs := by rw [e2909]; exact hW
  obtain ⟨hx0, hcs⟩ := lx_s (σ1 := σ2908) hx0 hcs (by rw [e2909]; exact (kp_M (by decide)))
  have hc2910 : 0 < gN_ σ2908 109 := by rw [e2909]; exact hc2856
  have hc2911 : (gN_ σ 112) < gN_ σ2908 112 := by rw [e2909]; exact hc2857
  have hc2912 : (gN_ σ17 113) < gN_ σ2908 113 := by rw [e2909]; exact hc2858
  have hc2913 : (gN_ σ28 114) < gN_ σ2908 114 := by rw [e2909]; exact hc2859
  have hc2914 : (gN_ σ41 115) < gN_ σ2908 115 := by rw [e2909]; exact hc2860
  have hc2915 : (gN_ σ56 116) < gN_ σ2908 116 := by rw [e2909]; exact hc2861
  have hc2916 : (gN_ σ73 117) < gN_ σ2908 117 := by rw [e2909]; exact hc2862
  have hc2917 : (gN_ σ92 118) < gN_ σ2908 118 := by rw [e2909]; exact hc2863
  have hc2918 : (gN_ σ113 119) < gN_ σ2908 119 := by rw [e2909]; exact hc2864
  have hc2919 : (gN_ σ136 127) < gN_ σ2908 127 := by rw [e2909]; exact hc2865
  have hc2920 : (gN_ σ161 128) < gN_ σ2908 128 := by rw [e2909]; exact hc2866
  have hc2921 : (gN_ σ188 129) < gN_ σ2908 129 := by rw [e2909]; exact hc2867
  have hc2922 : (gN_ σ217 130) < gN_ σ2908 130 := by rw [e2909]; exact hc2868
  have hc2923 : (gN_ σ248 131) < gN_ σ2908 131 := by rw [e2909]; exact hc2869
  have hc2924 : (gN_ σ281 137) < gN_ σ2908 137 := by rw [e2909]; exact hc2870
  have hc2925 : (gN_ σ316 138) < gN_ σ2908 138 := by rw [e2909]; exact hc2871
  have hc2926 : (gN_ σ353 145) < gN_ σ2908 145 := by rw [e2909]; exact hc2872
  have hc2927 : (gN_ σ392 146) < gN_ σ2908 146 := by rw [e2909]; exact hc2873
  have hc2928 : (gN_ σ433 147) < gN_ σ2908 147 := by rw [e2909]; exact hc2874
  have hc2929 : (gN_ σ476 148) < gN_ σ2908 148 := by rw [e2909]; exact hc2875
  have hc2930 : (gN_ σ521 150) < gN_ σ2908 150 := by rw [e2909]; exact hc2876
  have hc2931 : (gN_ σ568 151) < gN_ σ2908 151 := by rw [e2909]; exact hc2877
  have hc2932 : (gN_ σ617 152) < gN_ σ2908 152 := by rw [e2909]; exact hc2878
  have hc2933 : (gN_ σ668 153) < gN_ σ2908 153 := by rw [e2909]; exact hc2879
  have hc2934 : (gN_ σ721 154) < gN_ σ2908 154 := by rw [e2909]; exact hc2880
  have hc2935 : (gN_ σ776 155) < gN_ σ2908 155 := by rw [e2909]; exact hc2881
  have hc2936 : (gN_ σ833 156) < gN_ σ2908 156 := by rw [e2909]; exact hc2882
  have hc2937 : (gN_ σ892 157) < gN_ σ2908 157 := by rw [e2909]; exact hc2883
  have hc2938 : (gN_ σ953 158) < gN_ σ2908 158 := by rw [e2909]; exact hc2884
  have hc2939 : (gN_ σ1016 163) < gN_ σ2908 163 := by rw [e2909]; exact hc2885
  have hc2940 : (gN_ σ1081 164) < gN_ σ2908 164 := by rw [e2909]; exact hc2886
  have hc2941 : (gN_ σ1148 165) < gN_ σ2908 165 := by rw [e2909]; exact hc2887
  have hc2942 : (gN_ σ1217 166) < gN_ σ2908 166 := by rw [e2909]; exact hc2888
  have hc2943 : (gN_ σ1288 171) < gN_ σ2908 171 := by rw [e2909]; exact hc2889
  have hc2944 : (gN_ σ1361 175) < gN_ σ2908 175 := by rw [e2909]; exact hc2890
  have hc2945 : (gN_ σ1436 176) < gN_ σ2908 176 := by rw [e2909]; exact hc2891
  have hc2946 : (gN_ σ1513 177) < gN_ σ2908 177 := by rw [e2909]; exact hc2892
  have hc2947 : (gN_ σ1592 178) < gN_ σ2908 178 := by rw [e2909]; exact hc2893
  have hc2948 : (gN_ σ1673 179) < gN_ σ2908 179 := by rw [e2909]; exact hc2894
  have hc2949 : (gN_ σ1756 182) < gN_ σ2908 182 := by rw [e2909]; exact hc2895
  have hc2950 : (gN_ σ1841 187) < gN_ σ2908 187 := by rw [e2909]; exact hc2896
  have hc2951 : (gN_ σ1928 188) < gN_ σ2908 188 := by rw [e2909]; exact hc2897
  have hc2952 : (gN_ σ2017 189) < gN_ σ2908 189 := by rw [e2909]; exact hc2898
  have hc2953 : (gN_ σ2108 190) < gN_ σ2908 190 := by rw [e2909]; exact hc2899
  have hc2954 : (gN_ σ2201 193) < gN_ σ2908 193 := by rw [e2909]; exact hc2900
  have hc2955 : (gN_ σ2296 194) < gN_ σ2908 194 := by rw [e2909]; exact hc2901
  have hc2956 : (gN_ σ2393 195) < gN_ σ2908 195 := by rw [e2909]; exact hc2902
  have hc2957 : (gN_ σ2492 196) < gN_ σ2908 196 := by rw [e2909]; exact hc2903
  have hc2958 : (gN_ σ2593 197) < gN_ σ2908 197 := by rw [e2909]; exact hc2904
  have hc2959 : (gN_ σ2696 198) < gN_ σ2908 198 := by rw [e2909]; exact hc2905
  have hc2960 : (gN_ σ2801 199) < gN_ σ2908 199 := by rw [e2909]; exact hc2906
  refine lv_aload_n hx hb dX10_init_409 rfl (lv_at hl 0 rfl) ?_
  refine lv_bipush (v := 64) hx hb dX10_init_410 (by decide) ?_
  have hp2961 : pr σ2908 109 0 := (pr_dy hc2910 rfl rfl)
  obtain ⟨σ2962, e2963, hs⟩ := ww_let hs
  obtain ⟨hs, hck⟩ := ww_ck1 hs
  have hrm1 := hcs.room (σ1 := σ2962) (a := 1) (b := 64) (by rw [e2963]; rfl) (by rw [e2963]; rfl) hck
  refine ww_newa (atype := .int) hx hb (hts _ q201) hW 200 0 64 (Or.inl rfl) sole_200 (Or.inr hgm) rfl rfl rfl (by decide) rfl (Nat.le_of_ble_eq_true rfl) hrm1.1 hrm1.2 dX10_init_412 (fun H L hx1 hW => ?_)
  rw [← e2963] at hx1 hW
  have hcs := hcs.more (σ1 := σ2962) (a := 1) (b := 64) (by rw [e2963]; rfl) (by rw [e2963]; rfl)
  have hrm := hrm1
  have hc2964 : 0 < gN_ σ2962 109 := Nat.lt_of_lt_of_le hc2910 (hx1.2.1 109)
  have hc2965 : (gN_ σ 112) < gN_ σ2962 112 := Nat.lt_of_lt_of_le hc2911 (hx1.2.1 112)
  have hc2966 : (gN_ σ17 113) < gN_ σ2962 113 := Nat.lt_of_lt_of_le hc2912 (hx1.2.1 113)
  have hc2967 : (gN_ σ28 114) < gN_ σ2962 114 := Nat.lt_of_lt_of_le hc2913 (hx1.2.1 114)
  have hc2968 : (gN_ σ41 115) < gN_ σ2962 115 := Nat.lt_of_lt_of_le hc2914 (hx1.2.1 115)
  have hc2969 : (gN_ σ56 116) < gN_ σ2962 116 := Nat.lt_of_lt_of_le hc2915 (hx1.2.1 116)
  have hc2970 : (gN_ σ73 117) < gN_ σ2962 117 := Nat.lt_of_lt_of_le hc2916 (hx1.2.1 117)
  have hc2971 : (gN_ σ92 118) < gN_ σ2962 118 := Nat.lt_of_lt_of_le hc2917 (hx1.2.1 118)
  have hc2972 : (gN_ σ113 119) < gN_ σ2962 119 := Nat.lt_of_lt_of_le hc2918 (hx1.2.1 119)
  have hc2973 : (gN_ σ136 127) < gN_ σ2962 127 := Nat.lt_of_lt_of_le hc2919 (hx1.2.1 127)
  have hc2974 : (gN_ σ161 128) < gN_ σ2962 128 := Nat.lt_of_lt_of_le hc2920 (hx1.2.1 128)
  have hc2975 : (gN_ σ188 129) < gN_ σ2962 129 := Nat.lt_of_lt_of_le hc2921 (hx1.2.1 129)
  have hc2976 : (gN_ σ217 130) < gN_ σ2962 130 := Nat.lt_of_lt_of_le hc2922 (hx1.2.1 130)
  have hc2977 : (gN_ σ248 131) < gN_ σ2962 131 := Nat.lt_of_lt_of_le hc2923 (hx1.2.1 131)
  have hc2978 : (gN_ σ281 137) < gN_ σ2962 137 := Nat.lt_of_lt_of_le hc2924 (hx1.2.1 137)
  have hc2979 : (gN_ σ316 138) < gN_ σ2962 138 := Nat.lt_of_lt_of_le hc2925 (hx1.2.1 138)
  have hc2980 : (gN_ σ353 145) < gN_ σ2962 145 := Nat.lt_of_lt_of_le hc2926 (hx1.2.1 145)
  have hc2981 : (gN_ σ392 146) < gN_ σ2962 146 := Nat.lt_of_lt_of_le hc2927 (hx1.2.1 146)
  have hc2982 : (gN_ σ433 147) < gN_ σ2962 147 := Nat.lt_of_lt_of_le hc2928 (hx1.2.1 147)
  have hc2983 : (gN_ σ476 148) < gN_ σ2962 148 := Nat.lt_of_lt_of_le hc2929 (hx1.2.1 148)
  have hc2984 : (gN_ σ521 150) < gN_ σ2962 150 := Nat.lt_of_lt_of_le hc2930 (hx1.2.1 150)
  have hc2985 : (gN_ σ568 151) < gN_ σ2962 151 := Nat.lt_of_lt_of_le hc2931 (hx1.2.1 151)
  have hc2986 : (gN_ σ617 152) < gN_ σ2962 152 := Nat.lt_of_lt_of_le hc2932 (hx1.2.1 152)
  have hc2987 : (gN_ σ668 153) < gN_ σ2962 153 := Nat.lt_of_lt_of_le hc2933 (hx1.2.1 153)
  have hc2988 : (gN_ σ721 154) < gN_ σ2962 154 := Nat.lt_of_lt_of_le hc2934 (hx1.2.1 154)
  have hc2989 : (gN_ σ776 155) < gN_ σ2962 155 := Nat.lt_of_lt_of_le hc2935 (hx1.2.1 155)
  have hc2990 : (gN_ σ833 156) < gN_ σ2962 156 := Nat.lt_of_lt_of_le hc2936 (hx1.2.1 156)
  have hc2991 : (gN_ σ892 157) < gN_ σ2962 157 := Nat.lt_of_lt_of_le hc2937 (hx1.2.1 157)
  have hc2992 : (gN_ σ953 158) < gN_ σ2962 158 := Nat.lt_of_lt_of_le hc2938 (hx1.2.1 158)
  have hc2993 : (gN_ σ1016 163) < gN_ σ2962 163 := Nat.lt_of_lt_of_le hc2939 (hx1.2.1 163)
  have hc2994 : (gN_ σ1081 164) < gN_ σ2962 164 := Nat.lt_of_lt_of_le hc2940 (hx1.2.1 164)
  have hc2995 : (gN_ σ1148 165) < gN_ σ2962 165 := Nat.lt_of_lt_of_le hc2941 (hx1.2.1 165)
  have hc2996 : (gN_ σ1217 166) < gN_ σ2962 166 := Nat.lt_of_lt_of_le hc2942 (hx1.2.1 166)
  have hc2997 : (gN_ σ1288 171) < gN_ σ2962 171 := Nat.lt_of_lt_of_le hc2943 (hx1.2.1 171)
  have hc2998 : (gN_ σ1361 175) < gN_ σ2962 175 := Nat.lt_of_lt_of_le hc2944 (hx1.2.1 175)
  have hc2999 : (gN_ σ1436 176) < gN_ σ2962 176 := Nat.lt_of_lt_of_le hc2945 (hx1.2.1 176)
  have hc3000 : (gN_ σ1513 177) < gN_ σ2962 177 := Nat.lt_of_lt_of_le hc2946 (hx1.2.1 177)
  have hc3001 : (gN_ σ1592 178) < gN_ σ2962 178 := Nat.lt_of_lt_of_le hc2947 (hx1.2.1 178)
  have hc3002 : (gN_ σ1673 179) < gN_ σ2962 179 := Nat.lt_of_lt_of_le hc2948 (hx1.2.1 179)
  have hc3003 : (gN_ σ1756 182) < gN_ σ2962 182 := Nat.lt_of_lt_of_le hc2949 (hx1.2.1 182)
  have hc3004 : (gN_ σ1841 187) < gN_ σ2962 187 := Nat.lt_of_lt_of_le hc2950 (hx1.2.1 187)
  have hc3005 : (gN_ σ1928 188) < gN_ σ2962 188 := Nat.lt_of_lt_of_le hc2951 (hx1.2.1 188)
  have hc3006 : (gN_ σ2017 189) < gN_ σ2962 189 := Nat.lt_of_lt_of_le hc2952 (hx1.2.1 189)
  have hc3007 : (gN_ σ2108 190) < gN_ σ2962 190 := Nat.lt_of_lt_of_le hc2953 (hx1.2.1 190)
  have hc3008 : (gN_ σ2201 193) < gN_ σ2962 193 := Nat.lt_of_lt_of_le hc2954 (hx1.2.1 193)
  have hc3009 : (gN_ σ2296 194) < gN_ σ2962 194 := Nat.lt_of_lt_of_le hc2955 (hx1.2.1 194)
  have hc3010 : (gN_ σ2393 195) < gN_ σ2962 195 := Nat.lt_of_lt_of_le hc2956 (hx1.2.1 195)
  have hc3011 : (gN_ σ2492 196) < gN_ σ2962 196 := Nat.lt_of_lt_of_le hc2957 (hx1.2.1 196)
  have hc3012 : (gN_ σ2593 197) < gN_ σ2962 197 := Nat.lt_of_lt_of_le hc2958 (hx1.2.1 197)
  have hc3013 : (gN_ σ2696 198) < gN_ σ2962 198 := Nat.lt_of_lt_of_le hc2959 (hx1.2.1 198)
  have hc3014 : (gN_ σ2801 199) < gN_ σ2962 199 := Nat.lt_of_lt_of_le hc2960 (hx1.2.1 199)
  have hc3015 : gN_ σ2908 200 < gN_ σ2962 200 := by rw [e2963]; exact nA_lt rfl
  rw [show ow_ 200 = 200 from rfl]
  have hl : lv_has ls 2 [(0, .ref (L 109 0))] := by rw [hx1.at hp2961 (by decide)]; exact hl
  refine ww_stk (st1 := [.ref (L 200 (gN_ σ2908 200)), .ref (L 109 0)]) (by rw [hx1.at hp2961 (by decide)]) ?_
  have hx0 := hx0.trans hx1
  obtain ⟨hc3016, hs⟩ := ww_chk hs
  have hpq : pr σ2962 200 (gN_ σ2908 200) := (pr_dy hc3015 rfl rfl)
  rw [hc3016] at hpq
  obtain ⟨σ3017, e3018, hs⟩ := ww_let hs
  refine ww_markF (d := (1, 200, 0)) hx hb hts hown (hnm.trans rfl) hW 109 0 90 0 (pr_dy hc2964 rfl rfl) (tgd_1 hpq) (obv_0 rfl) rfl (by decide) (Nat.le_of_ble_eq_true rfl) in_X10 tyX10_ok nmX10 rfl (Nat.le_of_ble_eq_true rfl) (hts _ q1783) (fun _ h => h) rfl rfl rfl (fun _ => rfl) (fun _ => rfl) (by rw [hc3016]; rfl) dX10_init_414 (fun H locs hW => ?_)
  have hW : wv g L σ3017 s H locs := by rw [e3018]; exact hW
  obtain ⟨hx0, hcs⟩ := lx_s (σ1 := σ3017) hx0 hcs (by rw [e3018]; exact (kp_M (by decide)))
  have hc3019 : 0 < gN_ σ3017 109 := by rw [e3018]; exact hc2964
  have hc3020 : (gN_ σ 112) < gN_ σ3017 112 := by rw [e3018]; exact hc2965
  have hc3021 : (gN_ σ17 113) < gN_ σ3017 113 := by rw [e3018]; exact hc2966
  have hc3022 : (gN_ σ28 114) < gN_ σ3017 114 := by rw [e3018]; exact hc2967
  have hc3023 : (gN_ σ41 115) < gN_ σ3017 115 := by rw [e3018]; exact hc2968
  have hc3024 : (gN_ σ56 116) < gN_ σ3017 116 := by rw [e3018]; exact hc2969
  have hc3025 : (gN_ σ73 117) < gN_ σ3017 117 := by rw [e3018]; exact hc2970
  have hc3026 : (gN_ σ92 118) < gN_ σ3017 118 := by rw [e3018]; exact hc2971
  have hc3027 : (gN_ σ113 119) < gN_ σ3017 119 := by rw [e3018]; exact hc2972
  have hc3028 : (gN_ σ136 127) < gN_ σ3017 127 := by rw [e3018]; exact hc2973
  have hc3029 : (gN_ σ161 128) < gN_ σ3017 128 := by rw [e3018]; exact hc2974
  have hc3030 : (gN_ σ188 129) < gN_ σ3017 129 := by rw [e3018]; exact hc2975
  have hc3031 : (gN_ σ217 130) < gN_ σ3017 130 := by rw [e3018]; exact hc2976
  have hc3032 : (gN_ σ248 131) < gN_ σ3017 131 := by rw [e3018]; exact hc2977
  have hc3033 : (gN_ σ281 137) < gN_ σ3017 137 := by rw [e3018]; exact hc2978
  have hc3034 : (gN_ σ316 138) < gN_ σ3017 138 := by rw [e3018]; exact hc2979
  have hc3035 : (gN_ σ353 145) < gN_ σ3017 145 := by rw [e3018]; exact hc2980
  have hc3036 : (gN_ σ392 146) < gN_ σ3017 146 := by rw [e3018]; exact hc2981
  have hc3037 : (gN_ σ433 147) < gN_ σ3017 147 := by rw [e3018]; exact hc2982
  have hc3038 : (gN_ σ476 148) < gN_ σ3017 148 := by rw [e3018]; exact hc2983
  have hc3039 : (gN_ σ521 150) < gN_ σ3017 150 := by rw [e3018]; exact hc2984
  have hc3040 : (gN_ σ568 151) < gN_ σ3017 151 := by rw [e3018]; exact hc2985
  have hc3041 : (gN_ σ617 152) < gN_ σ3017 152 := by rw [e3018]; exact hc2986
  have hc3042 : (gN_ σ668 153) < gN_ σ3017 153 := by rw [e3018]; exact hc2987
  have hc3043 : (gN_ σ721 154) < gN_ σ3017 154 := by rw [e3018]; exact hc2988
  have hc3044 : (gN_ σ776 155) < gN_ σ3017 155 := by rw [e3018]; exact hc2989
  have hc3045 : (gN_ σ833 156) < gN_ σ3017 156 := by rw [e3018]; exact hc2990
  have hc3046 : (gN_ σ892 157) < gN_ σ3017 157 := by rw [e3018]; exact hc2991
  have hc3047 : (gN_ σ953 158) < gN_ σ3017 158 := by rw [e3018]; exact hc2992
  have hc3048 : (gN_ σ1016 163) < gN_ σ3017 163 := by rw [e3018]; exact hc2993
  have hc3049 : (gN_ σ1081 164) < gN_ σ3017 164 := by rw [e3018]; exact hc2994
  have hc3050 : (gN_ σ1148 165) < gN_ σ3017 165 := by rw [e3018]; exact hc2995
  have hc3051 : (gN_ σ1217 166) < gN_ σ3017 166 := by rw [e3018]; exact hc2996
  have hc3052 : (gN_ σ1288 171) < gN_ σ3017 171 := by rw [e3018]; exact hc2997
  have hc3053 : (gN_ σ1361 175) < gN_ σ3017 175 := by rw [e3018]; exact hc2998
  have hc3054 : (gN_ σ1436 176) < gN_ σ3017 176 := by rw [e3018]; exact hc2999
  have hc3055 : (gN_ σ1513 177) < gN_ σ3017 177 := by rw [e3018]; exact hc3000
  have hc3056 : (gN_ σ1592 178) < gN_ σ3017 178 := by rw [e3018]; exact hc3001
  have hc3057 : (gN_ σ1673 179) < gN_ σ3017 179 := by rw [e3018]; exact hc3002
  have hc3058 : (gN_ σ1756 182) < gN_ σ3017 182 := by rw [e3018]; exact hc3003
  have hc3059 : (gN_ σ1841 187) < gN_ σ3017 187 := by rw [e3018]; exact hc3004
  have hc3060 : (gN_ σ1928 188) < gN_ σ3017 188 := by rw [e3018]; exact hc3005
  have hc3061 : (gN_ σ2017 189) < gN_ σ3017 189 := by rw [e3018]; exact hc3006
  have hc3062 : (gN_ σ2108 190) < gN_ σ3017 190 := by rw [e3018]; exact hc3007
  have hc3063 : (gN_ σ2201 193) < gN_ σ3017 193 := by rw [e3018]; exact hc3008
  have hc3064 : (gN_ σ2296 194) < gN_ σ3017 194 := by rw [e3018]; exact hc3009
  have hc3065 : (gN_ σ2393 195) < gN_ σ3017 195 := by rw [e3018]; exact hc3010
  have hc3066 : (gN_ σ2492 196) < gN_ σ3017 196 := by rw [e3018]; exact hc3011
  have hc3067 : (gN_ σ2593 197) < gN_ σ3017 197 := by rw [e3018]; exact hc3012
  have hc3068 : (gN_ σ2696 198) < gN_ σ3017 198 := by rw [e3018]; exact hc3013
  have hc3069 : (gN_ σ2801 199) < gN_ σ3017 199 := by rw [e3018]; exact hc3014
  have hc3070 : (gN_ σ2908 200) < gN_ σ3017 200 := by rw [e3018]; exact hc3015
  refine lv_aload_n hx hb dX10_init_417 rfl (lv_at hl 0 rfl) ?_
  refine lv_bipush (v := 64) hx hb dX10_init_418 (by decide) ?_
  have hp3071 : pr σ3017 109 0 := (pr_dy hc3019 rfl rfl)
  obtain ⟨σ3072, e3073, hs⟩ := ww_let hs
  obtain ⟨hs, hck⟩ := ww_ck1 hs
  have hrm1 := hcs.room (σ1 := σ3072) (a := 1) (b := 64) (by rw [e3073]; rfl) (by rw [e3073]; rfl) hck
  refine ww_newa (atype := .int) hx hb (hts _ q201) hW 201 0 64 (Or.inl rfl) sole_201 (Or.inr hgm) rfl rfl rfl (by decide) rfl (Nat.le_of_ble_eq_true rfl) hrm1.1 hrm1.2 dX10_init_420 (fun H L hx1 hW => ?_)
  rw [← e3073] at hx1 hW
  have hcs := hcs.more (σ1 := σ3072) (a := 1) (b := 64) (by rw [e3073]; rfl) (by rw [e3073]; rfl)
  have hrm := hrm1
  have hc3074 : 0 < gN_ σ3072 109 := Nat.lt_of_lt_of_le hc3019 (hx1.2.1 109)
  have hc3075 : (gN_ σ 112) < gN_ σ3072 112 := Nat.lt_of_lt_of_le hc3020 (hx1.2.1 112)
  have hc3076 : (gN_ σ17 113) < gN_ σ3072 113 := Nat.lt_of_lt_of_le hc3021 (hx1.2.1 113)
  have hc3077 : (gN_ σ28 114) < gN_ σ3072 114 := Nat.lt_of_lt_of_le hc3022 (hx1.2.1 114)
  have hc3078 : (gN_ σ41 115) < gN_ σ3072 115 := Nat.lt_of_lt_of_le hc3023 (hx1.2.1 115)
  have hc3079 : (gN_ σ56 116) < gN_ σ3072 116 := Nat.lt_of_lt_of_le hc3024 (hx1.2.1 116)
  have hc3080 : (gN_ σ73 117) < gN_ σ3072 117 := Nat.lt_of_lt_of_le hc3025 (hx1.2.1 117)
  have hc3081 : (gN_ σ92 118) < gN_ σ3072 118 := Nat.lt_of_lt_of_le hc3026 (hx1.2.1 118)
  have hc3082 : (gN_ σ113 119) < gN_ σ3072 119 := Nat.lt_of_lt_of_le hc3027 (hx1.2.1 119)
  have hc3083 : (gN_ σ136 127) < gN_ σ3072 127 := Nat.lt_of_lt_of_le hc3028 (hx1.2.1 127)
  have hc3084 : (gN_ σ161 128) < gN_ σ3072 128 := Nat.lt_of_lt_of_le hc3029 (hx1.2.1 128)
  have hc3085 : (gN_ σ188 129) < gN_ σ3072 129 := Nat.lt_of_lt_of_le hc3030 (hx1.2.1 129)
  have hc3086 : (gN_ σ217 130) < gN_ σ3072 130 := Nat.lt_of_lt_of_le hc3031 (hx1.2.1 130)
  have hc3087 : (gN_ σ248 131) < gN_ σ3072 131 := Nat.lt_of_lt_of_le hc3032 (hx1.2.1 131)
  have hc3088 : (gN_ σ281 137) < gN_ σ3072 137 := Nat.lt_of_lt_of_le hc3033 (hx1.2.1 137)
  have hc3089 : (gN_ σ316 138) < gN_ σ3072 138 := Nat.lt_of_lt_of_le hc3034 (hx1.2.1 138)
  have hc3090 : (gN_ σ353 145) < gN_ σ3072 145 := Nat.lt_of_lt_of_le hc3035 (hx1.2.1 145)
  have hc3091 : (gN_ σ392 146) < gN_ σ3072 146 := Nat.lt_of_lt_of_le hc3036 (hx1.2.1 146)
  have hc3092 : (gN_ σ433 147) < gN_ σ3072 147 := Nat.lt_of_lt_of_le hc3037 (hx1.2.1 147)
  have hc3093 : (gN_ σ476 148) < gN_ σ3072 148 := Nat.lt_of_lt_of_le hc3038 (hx1.2.1 148)
  have hc3094 : (gN_ σ521 150) < gN_ σ3072 150 := Nat.lt_of_lt_of_le hc3039 (hx1.2.1 150)
  have hc3095 : (gN_ σ568 151) < gN_ σ3072 151 := Nat.lt_of_lt_of_le hc3040 (hx1.2.1 151)
  have hc3096 : (gN_ σ617 152) < gN_ σ3072 152 := Nat.lt_of_lt_of_le hc3041 (hx1.2.1 152)
  have hc3097 : (gN_ σ668 153) < gN_ σ3072 153 := Nat.lt_of_lt_of_le hc3042 (hx1.2.1 153)
  have hc3098 : (gN_ σ721 154) < gN_ σ3072 154 := Nat.lt_of_lt_of_le hc3043 (hx1.2.1 154)
  have hc3099 : (gN_ σ776 155) < gN_ σ3072 155 := Nat.lt_of_lt_of_le hc3044 (hx1.2.1 155)
  have hc3100 : (gN_ σ833 156) < gN_ σ3072 156 := Nat.lt_of_lt_of_le hc3045 (hx1.2.1 156)
  have hc3101 : (gN_ σ892 157) < gN_ σ3072 157 := Nat.lt_of_lt_of_le hc3046 (hx1.2.1 157)
  have hc3102 : (gN_ σ953 158) < gN_ σ3072 158 := Nat.lt_of_lt_of_le hc3047 (hx1.2.1 158)
  have hc3103 : (gN_ σ1016 163) < gN_ σ3072 163 := Nat.lt_of_lt_of_le hc3048 (hx1.2.1 163)
  have hc3104 : (gN_ σ1081 164) < gN_ σ3072 164 := Nat.lt_of_lt_of_le hc3049 (hx1.2.1 164)
  have hc3105 : (gN_ σ1148 165) < gN_ σ3072 165 := Nat.lt_of_lt_of_le hc3050 (hx1.2.1 165)
  have hc3106 : (gN_ σ1217 166) < gN_ σ3072 166 := Nat.lt_of_lt_of_le hc3051 (hx1.2.1 166)
  have hc3107 : (gN_ σ1288 171) < gN_ σ3072 171 := Nat.lt_of_lt_of_le hc3052 (hx1.2.1 171)
  have hc3108 : (gN_ σ1361 175) < gN_ σ3072 175 := Nat.lt_of_lt_of_le hc3053 (hx1.2.1 175)
  have hc3109 : (gN_ σ1436 176) < gN_ σ3072 176 := Nat.lt_of_lt_of_le hc3054 (hx1.2.1 176)
  have hc3110 : (gN_ σ1513 177) < gN_ σ3072 177 := Nat.lt_of_lt_of_le hc3055 (hx1.2.1 177)
  have hc3111 : (gN_ σ1592 178) < gN_ σ3072 178 := Nat.lt_of_lt_of_le hc3056 (hx1.2.1 178)
  have hc3112 : (gN_ σ1673 179) < gN_ σ3072 179 := Nat.lt_of_lt_of_le hc3057 (hx1.2.1 179)
  have hc3113 : (gN_ σ1756 182) < gN_ σ3072 182 := Nat.lt_of_lt_of_le hc3058 (hx1.2.1 182)
  have hc3114 : (gN_ σ1841 187) < gN_ σ3072 187 := Nat.lt_of_lt_of_le hc3059 (hx1.2.1 187)
  have hc3115 : (gN_ σ1928 188) < gN_ σ3072 188 := Nat.lt_of_lt_of_le hc3060 (hx1.2.1 188)
  have hc3116 : (gN_ σ2017 189) < gN_ σ3072 189 := Nat.lt_of_lt_of_le hc3061 (hx1.2.1 189)
  have hc3117 : (gN_ σ2108 190) < gN_ σ3072 190 := Nat.lt_of_lt_of_le hc3062 (hx1.2.1 190)
  have hc3118 : (gN_ σ2201 193) < gN_ σ3072 193 := Nat.lt_of_lt_of_le hc3063 (hx1.2.1 193)
  have hc3119 : (gN_ σ2296 194) < gN_ σ3072 194 := Nat.lt_of_lt_of_le hc3064 (hx1.2.1 194)
  have hc3120 : (gN_ σ2393 195) < gN_ σ3072 195 := Nat.lt_of_lt_of_le hc3065 (hx1.2.1 195)
  have hc3121 : (gN_ σ2492 196) < gN_ σ3072 196 := Nat.lt_of_lt_of_le hc3066 (hx1.2.1 196)
  have hc3122 : (gN_ σ2593 197) < gN_ σ3072 197 := Nat.lt_of_lt_of_le hc3067 (hx1.2.1 197)
  have hc3123 : (gN_ σ2696 198) < gN_ σ3072 198 := Nat.lt_of_lt_of_le hc3068 (hx1.2.1 198)
  have hc3124 : (gN_ σ2801 199) < gN_ σ3072 199 := Nat.lt_of_lt_of_le hc3069 (hx1.2.1 199)
  have hc3125 : (gN_ σ2908 200) < gN_ σ3072 200 := Nat.lt_of_lt_of_le hc3070 (hx1.2.1 200)
  have hc3126 : gN_ σ3017 201 < gN_ σ3072 201 := by rw [e3073]; exact nA_lt rfl
  rw [show ow_ 201 = 201 from rfl]
  have hl : lv_has ls 2 [(0, .ref (L 109 0))] := by rw [hx1.at hp3071 (by decide)]; exact hl
  refine ww_stk (st1 := [.ref (L 201 (gN_ σ3017 201)), .ref (L 109 0)]) (by rw [hx1.at hp3071 (by decide)]) ?_
  have hx0 := hx0.trans hx1
  obtain ⟨hc3127, hs⟩ := ww_chk hs
  have hpq : pr σ3072 201 (gN_ σ3017 201) := (pr_dy hc3126 rfl rfl)
  rw [hc3127] at hpq
  obtain ⟨σ3128, e3129, hs⟩ := ww_let hs
  refine ww_markF (d := (1, 201, 0)) hx hb hts hown (hnm.trans rfl) hW 109 0 91 0 (pr_dy hc3074 rfl rfl) (tgd_1 hpq) (obv_0 rfl) rfl (by decide) (Nat.le_of_ble_eq_true rfl) in_X10 tyX10_ok nmX10 rfl (Nat.le_of_ble_eq_true rfl) (hts _ q1784) (fun _ h => h) rfl rfl rfl (fun _ => rfl) (fun _ => rfl) (by rw [hc3127]; rfl) dX10_init_422 (fun H locs hW => ?_)
  have hW : wv g L σ3128 s H locs := by rw [e3129]; exact hW
  obtain ⟨hx0, hcs⟩ := lx_s (σ1 := σ3128) hx0 hcs (by rw [e3129]; exact (kp_M (by decide)))
  have hc3130 : 0 < gN_ σ3128 109 := by rw [e3129]; exact hc3074
  have hc3131 : (gN_ σ 112) < gN_ σ3128 112 := by rw [e3129]; exact hc3075
  have hc3132 : (gN_ σ17 113) < gN_ σ3128 113 := by rw [e3129]; exact hc3076
  have hc3133 : (gN_ σ28 114) < gN_ σ3128 114 := by rw [e3129]; exact hc3077
  have hc3134 : (gN_ σ41 115) < gN_ σ3128 115 := by rw [e3129]; exact hc3078
  have hc3135 : (gN_ σ56 116) < gN_ σ3128 116 := by rw [e3129]; exact hc3079
  have hc3136 : (gN_ σ73 117) < gN_ σ3128 117 := by rw [e3129]; exact hc3080
  have hc3137 : (gN_ σ92 118) < gN_ σ3128 118 := by rw [e3129]; exact hc3081
  have hc3138 : (gN_ σ113 119) < gN_ σ3128 119 := by rw [e3129]; exact hc3082
  have hc3139 : (gN_ σ136 127) < gN_ σ3128 127 := by rw [e3129]; exact hc3083
  have hc3140 : (gN_ σ161 128) < gN_ σ3128 128 := by rw [e3129]; exact hc3084
  have hc3141 : (gN_ σ188 129) < gN_ σ3128 129 := by rw [e3129]; exact hc3085
  have hc3142 : (gN_ σ217 130) < gN_ σ3128 130 := by rw [e3129]; exact hc3086
  have hc3143 : (gN_ σ248 131) < gN_ σ3128 131 := by rw [e3129]; exact hc3087
  have hc3144 : (gN_ σ281 137) < gN_ σ3128 137 := by rw [e3129]; exact hc3088
  have hc3145 : (gN_ σ316 138) < gN_ σ3128 138 := by rw [e3129]; exact hc3089
  have hc3146 : (gN_ σ353 145) < gN_ σ3128 145 := by rw [e3129]; exact hc3090
  have hc3147 : (gN_ σ392 146) < gN_ σ3128 146 := by rw [e3129]; exact hc3091
  have hc3148 : (gN_ σ433 147) < gN_ σ3128 147 := by rw [e3129]; exact hc3092
  have hc3149 : (gN_ σ476 148) < gN_ σ3128 148 := by rw [e3129]; exact hc3093
  have hc3150 : (gN_ σ521 150) < gN_ σ3128 150 := by rw [e3129]; exact hc3094
  have hc3151 : (gN_ σ568 151) < gN_ σ3128 151 := by rw [e3129]; exact hc3095
  have hc3152 : (gN_ σ617 152) < gN_ σ3128 152 := by rw [e3129]; exact hc3096
  have hc3153 : (gN_ σ668 153) < gN_ σ3128 153 := by rw [e3129]; exact hc3097
  have hc3154 : (gN_ σ721 154) < gN_ σ3128 154 := by rw [e3129]; exact hc3098
  have hc3155 : (gN_ σ776 155) < gN_ σ3128 155 := by rw [e3129]; exact hc3099
  have hc3156 : (gN_ σ833 156) < gN_ σ3128 156 := by rw [e3129]; exact hc3100
  have hc3157 : (gN_ σ892 157) < gN_ σ3128 157 := by rw [e3129]; exact hc3101
  have hc3158 : (gN_ σ953 158) < gN_ σ3128 158 := by rw [e3129]; exact hc3102
  have hc3159 : (gN_ σ1016 163) < gN_ σ3128 163 := by rw [e3129]; exact hc3103
  have hc3160 : (gN_ σ1081 164) < gN_ σ3128 164 := by rw [e3129]; exact hc3104
  have hc3161 : (gN_ σ1148 165) < gN_ σ3128 165 := by rw [e3129]; exact hc3105
  have hc3162 : (gN_ σ1217 166) < gN_ σ3128 166 := by rw [e3129]; exact hc3106
  have hc3163 : (gN_ σ1288 171) < gN_ σ3128 171 := by rw [e3129]; exact hc3107
  have hc3164 : (gN_ σ1361 175) < gN_ σ3128 175 := by rw [e3129]; exact hc3108
  have hc3165 : (gN_ σ1436 176) < gN_ σ3128 176 := by rw [e3129]; exact hc3109
  have hc3166 : (gN_ σ1513 177) < gN_ σ3128 177 := by rw [e3129]; exact hc3110
  have hc3167 : (gN_ σ1592 178) < gN_ σ3128 178 := by rw [e3129]; exact hc3111
  have hc3168 : (gN_ σ1673 179) < gN_ σ3128 179 := by rw [e3129]; exact hc3112
  have hc3169 : (gN_ σ1756 182) < gN_ σ3128 182 := by rw [e3129]; exact hc3113
  have hc3170 : (gN_ σ1841 187) < gN_ σ3128 187 := by rw [e3129]; exact hc3114
  have hc3171 : (gN_ σ1928 188) < gN_ σ3128 188 := by rw [e3129]; exact hc3115
  have hc3172 : (gN_ σ2017 189) < gN_ σ3128 189 := by rw [e3129]; exact hc3116
  have hc3173 : (gN_ σ2108 190) < gN_ σ3128 190 := by rw [e3129]; exact hc3117
  have hc3174 : (gN_ σ2201 193) < gN_ σ3128 193 := by rw [e3129]; exact hc3118
  have hc3175 : (gN_ σ2296 194) < gN_ σ3128 194 := by rw [e3129]; exact hc3119
  have hc3176 : (gN_ σ2393 195) < gN_ σ3128 195 := by rw [e3129]; exact hc3120
  have hc3177 : (gN_ σ2492 196) < gN_ σ3128 196 := by rw [e3129]; exact hc3121
  have hc3178 : (gN_ σ2593 197) < gN_ σ3128 197 := by rw [e3129]; exact hc3122
  have hc3179 : (gN_ σ2696 198) < gN_ σ3128 198 := by rw [e3129]; exact hc3123
  have hc3180 : (gN_ σ2801 199) < gN_ σ3128 199 := by rw [e3129]; exact hc3124
  have hc3181 : (gN_ σ2908 200) < gN_ σ3128 200 := by rw [e3129]; exact hc3125
  have hc3182 : (gN_ σ3017 201) < gN_ σ3128 201 := by rw [e3129]; exact hc3126
  refine lv_aload_n hx hb dX10_init_425 rfl (lv_at hl 0 rfl) ?_
  refine lv_bipush (v := 64) hx hb dX10_init_426 (by decide) ?_
  have hp3183 : pr σ3128 109 0 := (pr_dy hc3130 rfl rfl)
  obtain ⟨σ3184, e3185, hs⟩ := ww_let hs
  obtain ⟨hs, hck⟩ := ww_ck1 hs
  have hrm1 := hcs.room (σ1 := σ3184) (a := 1) (b := 64) (by rw [e3185]; rfl) (by rw [e3185]; rfl) hck
  refine ww_newa (atype := .boolean) hx hb (hts _ q224) hW 202 2 64 (Or.inl rfl) sole_202 (Or.inr hgm) rfl rfl rfl (by decide) rfl (Nat.le_of_ble_eq_true rfl) hrm1.1 hrm1.2 dX10_init_428 (fun H L hx1 hW => ?_)
  rw [← e3185] at hx1 hW
  have hcs := hcs.more (σ1 := σ3184) (a := 1) (b := 64) (by rw [e3185]; rfl) (by rw [e3185]; rfl)
  have hrm := hrm1
  have hc3186 : 0 < gN_ σ3184 109 := Nat.lt_of_lt_of_le hc3130 (hx1.2.1 109)
  have hc3187 : (gN_ σ 112) < gN_ σ3184 112 := Nat.lt_of_lt_of_le hc3131 (hx1.2.1 112)
  have hc3188 : (gN_ σ17 113) < gN_ σ3184 113 := Nat.lt_of_lt_of_le hc3132 (hx1.2.1 113)
  have hc3189 : (gN_ σ28 114) < gN_ σ3184 114 := Nat.lt_of_lt_of_le hc3133 (hx1.2.1 114)
  have hc3190 : (gN_ σ41 115) < gN_ σ3184 115 := Nat.lt_of_lt_of_le hc3134 (hx1.2.1 115)
  have hc3191 : (gN_ σ56 116) < gN_ σ3184 116 := Nat.lt_of_lt_of_le hc3135 (hx1.2.1 116)
  have hc3192 : (gN_ σ73 117) < gN_ σ3184 117 := Nat.lt_of_lt_of_le hc3136 (hx1.2.1 117)
  have hc3193 : (gN_ σ92 118) < gN_ σ3184 118 := Nat.lt_of_lt_of_le hc3137 (hx1.2.1 118)
  have hc3194 : (gN_ σ113 119) < gN_ σ3184 119 := Nat.lt_of_lt_of_le hc3138 (hx1.2.1 119)
  have hc3195 : (gN_ σ136 127) < gN_ σ3184 127 := Nat.lt_of_lt_of_le hc3139 (hx1.2.1 127)
  have hc3196 : (gN_ σ161 128) < gN_ σ3184 128 := Nat.lt_of_lt_of_le hc3140 (hx1.2.1 128)
  have hc3197 : (gN_ σ188 129) < gN_ σ3184 129 := Nat.lt_of_lt_of_le hc3141 (hx1.2.1 129)
  have hc3198 : (gN_ σ217 130) < gN_ σ3184 130 := Nat.lt_of_lt_of_le hc3142 (hx1.2.1 130)
  have hc3199 : (gN_ σ248 131) < gN_ σ3184 131 := Nat.lt_of_lt_of_le hc3143 (hx1.2.1 131)
  have hc3200 : (gN_ σ281 137) < gN_ σ3184 137 := Nat.lt_of_lt_of_le hc3144 (hx1.2.1 137)
  have hc3201 : (gN_ σ316 138) < gN_ σ3184 138 := Nat.lt_of_lt_of_le hc3145 (hx1.2.1 138)
  have hc3202 : (gN_ σ353 145) < gN_ σ3184 145 := Nat.lt_of_lt_of_le hc3146 (hx1.2.1 145)
  have hc3203 : (gN_ σ392 146) < gN_ σ3184 146 := Nat.lt_of_lt_of_le hc3147 (hx1.2.1 146)
  have hc3204 : (gN_ σ433 147) < gN_ σ3184 147 := Nat.lt_of_lt_of_le hc3148 (hx1.2.1 147)
  have hc3205 : (gN_ σ476 148) < gN_ σ3184 148 := Nat.lt_of_lt_of_le hc3149 (hx1.2.1 148)
  have hc3206 : (gN_ σ521 150) < gN_ σ3184 150 := Nat.lt_of_lt_of_le hc3150 (hx1.2.1 150)
  have hc3207 : (gN_ σ568 151) < gN_ σ3184 151 := Nat.lt_of_lt_of_le hc3151 (hx1.2.1 151)
  have hc3208 : (gN_ σ617 152) < gN_ σ3184 152 := Nat.lt_of_lt_of_le hc3152 (hx1.2.1 152)
  have hc3209 : (gN_ σ668 153) < gN_ σ3184 153 := Nat.lt_of_lt_of_le hc3153 (hx1.2.1 153)
  have hc3210 : (gN_ σ721 154) < gN_ σ3184 154 := Nat.lt_of_lt_of_le hc3154 (hx1.2.1 154)
  have hc3211 : (gN_ σ776 155) < gN_ σ3184 155 := Nat.lt_of_lt_of_le hc3155 (hx1.2.1 155)
  have hc3212 : (gN_ σ833 156) < gN_ σ3184 156 := Nat.lt_of_lt_of_le hc3156 (hx1.2.1 156)
  have hc3213 : (gN_ σ892 157) < gN_ σ3184 157 := Nat.lt_of_lt_of_le hc3157 (hx1.2.1 157)
  have hc3214 : (gN_ σ953 158) < gN_ σ3184 158 := Nat.lt_of_lt_of_le hc3158 (hx1.2.1 158)
  have hc3215 : (gN_ σ1016 163) < gN_ σ3184 163 := Nat.lt_of_lt_of_le hc3159 (hx1.2.1 163)
  have hc3216 : (gN_ σ1081 164) < gN_ σ3184 164 := Nat.lt_of_lt_of_le hc3160 (hx1.2.1 164)
  have hc3217 : (gN_ σ1148 165) < gN_ σ3184 165 := Nat.lt_of_lt_of_le hc3161 (hx1.2.1 165)
  have hc3218 : (gN_ σ1217 166) < gN_ σ3184 166 := Nat.lt_of_lt_of_le hc3162 (hx1.2.1 166)
  have hc3219 : (gN_ σ1288 171) < gN_ σ3184 171 := Nat.lt_of_lt_of_le hc3163 (hx1.2.1 171)
  have hc3220 : (gN_ σ1361 175) < gN_ σ3184 175 := Nat.lt_of_lt_of_le hc3164 (hx1.2.1 175)
  have hc3221 : (gN_ σ1436 176) < gN_ σ3184 176 := Nat.lt_of_lt_of_le hc3165 (hx1.2.1 176)
  have hc3222 : (gN_ σ1513 177) < gN_ σ3184 177 := Nat.lt_of_lt_of_le hc3166 (hx1.2.1 177)
  have hc3223 : (gN_ σ1592 178) < gN_ σ3184 178 := Nat.lt_of_lt_of_le hc3167 (hx1.2.1 178)
  have hc3224 : (gN_ σ1673 179) < gN_ σ3184 179 := Nat.lt_of_lt_of_le hc3168 (hx1.2.1 179)
  have hc3225 : (gN_ σ1756 182) < gN_ σ3184 182 := Nat.lt_of_lt_of_le hc3169 (hx1.2.1 182)
  have hc3226 : (gN_ σ1841 187) < gN_ σ3184 187 := Nat.lt_of_lt_of_le hc3170 (hx1.2.1 187)
  have hc3227 : (gN_ σ1928 188) < gN_ σ3184 188 := Nat.lt_of_lt_of_le hc3171 (hx1.2.1 188)
  have hc3228 : (gN_ σ2017 189) < gN_ σ3184 189 := Nat.lt_of_lt_of_le hc3172 (hx1.2.1 189)
  have hc3229 : (gN_ σ2108 190) < gN_ σ3184 190 := Nat.lt_of_lt_of_le hc3173 (hx1.2.1 190)
  have hc3230 : (gN_ σ2201 193) < gN_ σ3184 193 := Nat.lt_of_lt_of_le hc3174 (hx1.2.1 193)
  have hc3231 : (gN_ σ2296 194) < gN_ σ3184 194 := Nat.lt_of_lt_of_le hc3175 (hx1.2.1 194)
  have hc3232 : (gN_ σ2393 195) < gN_ σ3184 195 := Nat.lt_of_lt_of_le hc3176 (hx1.2.1 195)
  have hc3233 : (gN_ σ2492 196) < gN_ σ3184 196 := Nat.lt_of_lt_of_le hc3177 (hx1.2.1 196)
  have hc3234 : (gN_ σ2593 197) < gN_ σ3184 197 := Nat.lt_of_lt_of_le hc3178 (hx1.2.1 197)
  have hc3235 : (gN_ σ2696 198) < gN_ σ3184 198 := Nat.lt_of_lt_of_le hc3179 (hx1.2.1 198)
  have hc3236 : (gN_ σ2801 199) < gN_ σ3184 199 := Nat.lt_of_lt_of_le hc3180 (hx1.2.1 199)
  have hc3237 : (gN_ σ2908 200) < gN_ σ3184 200 := Nat.lt_of_lt_of_le hc3181 (hx1.2.1 200)
  have hc3238 : (gN_ σ3017 201) < gN_ σ3184 201 := Nat.lt_of_lt_of_le hc3182 (hx1.2.1 201)
  have hc3239 : gN_ σ3128 202 < gN_ σ3184 202 := by rw [e3185]; exact nA_lt rfl
  rw [show ow_ 202 = 202 from rfl]
  have hl : lv_has ls 2 [(0, .ref (L 109 0))] := by rw [hx1.at hp3183 (by decide)]; exact hl
  refine ww_stk (st1 := [.ref (L 202 (gN_ σ3128 202)), .ref (L 109 0)]) (by rw [hx1.at hp3183 (by decide)]) ?_
  have hx0 := hx0.trans hx1
  obtain ⟨hc3240, hs⟩ := ww_chk hs
  have hpq : pr σ3184 202 (gN_ σ3128 202) := (pr_dy hc3239 rfl rfl)
  rw [hc3240] at hpq
  obtain ⟨σ3241, e3242, hs⟩ := ww_let hs
  refine ww_markF (d := (1, 202, 0)) hx hb hts hown (hnm.trans rfl) hW 109 0 92 0 (pr_dy hc3186 rfl rfl) (tgd_1 hpq) (obv_0 rfl) rfl (by decide) (Nat.le_of_ble_eq_true rfl) in_X10 tyX10_ok nmX10 rfl (Nat.le_of_ble_eq_true rfl) (hts _ q1785) (fun _ h => h) rfl rfl rfl (fun _ => rfl) (fun _ => rfl) (by rw [hc3240]; rfl) dX10_init_430 (fun H locs hW => ?_)
  have hW : wv g L σ3241 s H locs := by rw [e3242]; exact hW
  obtain ⟨hx0, hcs⟩ := lx_s (σ1 := σ3241) hx0 hcs (by rw [e3242]; exact (kp_M (by decide)))
  have hc3243 : 0 < gN_ σ3241 109 := by rw [e3242]; exact hc3186
  have hc3244 : (gN_ σ 112) < gN_ σ3241 112 := by rw [e3242]; exact hc3187
  have hc3245 : (gN_ σ17 113) < gN_ σ3241 113 := by rw [e3242]; exact hc3188
  have hc3246 : (gN_ σ28 114) < gN_ σ3241 114 := by rw [e3242]; exact hc3189
  have hc3247 : (gN_ σ41 115) < gN_ σ3241 115 := by rw [e3242]; exact hc3190
  have hc3248 : (gN_ σ56 116) < gN_ σ3241 116 := by rw [e3242]; exact hc3191
  have hc3249 : (gN_ σ73 117) < gN_ σ3241 117 := by rw [e3242]; exact hc3192
  have hc3250 : (gN_ σ92 118) < gN_ σ3241 118 := by rw [e3242]; exact hc3193
  have hc3251 : (gN_ σ113 119) < gN_ σ3241 119 := by rw [e3242]; exact hc3194
  have hc3252 : (gN_ σ136 127) < gN_ σ3241 127 := by rw [e3242]; exact hc3195
  have hc3253 : (gN_ σ161 128) < gN_ σ3241 128 := by rw [e3242]; exact hc3196
  have hc3254 : (gN_ σ188 129) < gN_ σ3241 129 := by rw [e3242]; exact hc3197
  have hc3255 : (gN_ σ217 130) < gN_ σ3241 130 := by rw [e3242]; exact hc3198
  have hc3256 : (gN_ σ248 131) < gN_ σ3241 131 := by rw [e3242]; exact hc3199
  have hc3257 : (gN_ σ281 137) < gN_ σ3241 137 := by rw [e3242]; exact hc3200
  have hc3258 : (gN_ σ316 138) < gN_ σ3241 138 := by rw [e3242]; exact hc3201
  have hc3259 : (gN_ σ353 145) < gN_ σ3241 145 := by rw [e3242]; exact hc3202
  have hc3260 : (gN_ σ392 146) < gN_ σ3241 146 := by rw [e3242]; exact hc3203
  have hc3261 : (gN_ σ433 147) < gN_ σ3241 147 := by rw [e3242]; exact hc3204
  have hc3262 : (gN_ σ476 148) < gN_ σ3241 148 := by rw [e3242]; exact hc3205
  have hc3263 : (gN_ σ521 150) < gN_ σ3241 150 := by rw [e3242]; exact hc3206
  have hc3264 : (gN_ σ568 151) < gN_ σ3241 151 := by rw [e3242]; exact hc3207
  have hc3265 : (gN_ σ617 152) < gN_ σ3241 152 := by rw [e3242]; exact hc3208
  have hc3266 : (gN_ σ668 153) < gN_ σ3241 153 := by rw [e3242]; exact hc3209
  have hc3267 : (gN_ σ721 154) < gN_ σ3241 154 := by rw [e3242]; exact hc3210
  have hc3268 : (gN_ σ776 155) < gN_ σ3241 155 := by rw [e3242]; exact hc3211
  have hc3269 : (gN_ σ833 156) < gN_ σ3241 156 := by rw [e3242]; exact hc3212
  have hc3270 : (gN_ σ892 157) < gN_ σ3241 157 := by rw [e3242]; exact hc3213
  have hc3271 : (gN_ σ953 158) < gN_ σ3241 158 := by rw [e3242]; exact hc3214
  have hc3272 : (gN_ σ1016 163) < gN_ σ3241 163 := by rw [e3242]; exact hc3215
  have hc3273 : (gN_ σ1081 164) < gN_ σ3241 164 := by rw [e3242]; exact hc3216
  have hc3274 : (gN_ σ1148 165) < gN_ σ3241 165 := by rw [e3242]; exact hc3217
  have hc3275 : (gN_ σ1217 166) < gN_ σ3241 166 := by rw [e3242]; exact hc3218
  have hc3276 : (gN_ σ1288 171) < gN_ σ3241 171 := by rw [e3242]; exact hc3219
  have hc3277 : (gN_ σ1361 175) < gN_ σ3241 175 := by rw [e3242]; exact hc3220
  have hc3278 : (gN_ σ1436 176) < gN_ σ3241 176 := by rw [e3242]; exact hc3221
  have hc3279 : (gN_ σ1513 177) < gN_ σ3241 177 := by rw [e3242]; exact hc3222
  have hc3280 : (gN_ σ1592 178) < gN_ σ3241 178 := by rw [e3242]; exact hc3223
  have hc3281 : (gN_ σ1673 179) < gN_ σ3241 179 := by rw [e3242]; exact hc3224
  have hc3282 : (gN_ σ1756 182) < gN_ σ3241 182 := by rw [e3242]; exact hc3225
  have hc3283 : (gN_ σ1841 187) < gN_ σ3241 187 := by rw [e3242]; exact hc3226
  have hc3284 : (gN_ σ1928 188) < gN_ σ3241 188 := by rw [e3242]; exact hc3227
  have hc3285 : (gN_ σ2017 189) < gN_ σ3241 189 := by rw [e3242]; exact hc3228
  have hc3286 : (gN_ σ2108 190) < gN_ σ3241 190 := by rw [e3242]; exact hc3229
  have hc3287 : (gN_ σ2201 193) < gN_ σ3241 193 := by rw [e3242]; exact hc3230
  have hc3288 : (gN_ σ2296 194) < gN_ σ3241 194 := by rw [e3242]; exact hc3231
  have hc3289 : (gN_ σ2393 195) < gN_ σ3241 195 := by rw [e3242]; exact hc3232
  have hc3290 : (gN_ σ2492 196) < gN_ σ3241 196 := by rw [e3242]; exact hc3233
  have hc3291 : (gN_ σ2593 197) < gN_ σ3241 197 := by rw [e3242]; exact hc3234
  have hc3292 : (gN_ σ2696 198) < gN_ σ3241 198 := by rw [e3242]; exact hc3235
  have hc3293 : (gN_ σ2801 199) < gN_ σ3241 199 := by rw [e3242]; exact hc3236
  have hc3294 : (gN_ σ2908 200) < gN_ σ3241 200 := by rw [e3242]; exact hc3237
  have hc3295 : (gN_ σ3017 201) < gN_ σ3241 201 := by rw [e3242]; exact hc3238
  have hc3296 : (gN_ σ3128 202) < gN_ σ3241 202 := by rw [e3242]; exact hc3239
  refine lv_aload_n hx hb dX10_init_433 rfl (lv_at hl 0 rfl) ?_
  refine lv_bipush (v := 10) hx hb dX10_init_434 (by decide) ?_
  have hp3297 : pr σ3241 109 0 := (pr_dy hc3243 rfl rfl)
  obtain ⟨σ3298, e3299, hs⟩ := ww_let hs
  obtain ⟨hs, hck⟩ := ww_ck1 hs
  have hrm1 := hcs.room (σ1 := σ3298) (a := 1) (b := 10) (by rw [e3299]; rfl) (by rw [e3299]; rfl) hck
  refine ww_newa (atype := .int) hx hb (hts _ q201) hW 206 0 10 (Or.inl rfl) sole_206 (Or.inr hgm) rfl rfl rfl (by decide) rfl (Nat.le_of_ble_eq_true rfl) hrm1.1 hrm1.2 dX10_init_436 (fun H L hx1 hW => ?_)
  rw [← e3299] at hx1 hW
  have hcs := hcs.more (σ1 := σ3298) (a := 1) (b := 10) (by rw [e3299]; rfl) (by rw [e3299]; rfl)
  have hrm := hrm1
  have hc3300 : 0 < gN_ σ3298 109 := Nat.lt_of_lt_of_le hc3243 (hx1.2.1 109)
  have hc3301 : (gN_ σ 112) < gN_ σ3298 112 := Nat.lt_of_lt_of_le hc3244 (hx1.2.1 112)
  have hc3302 : (gN_ σ17 113) < gN_ σ3298 113 := Nat.lt_of_lt_of_le hc3245 (hx1.2.1 113)
  have hc3303 : (gN_ σ28 114) < gN_ σ3298 114 := Nat.lt_of_lt_of_le hc3246 (hx1.2.1 114)
  have hc3304 : (gN_ σ41 115) < gN_ σ3298 115 := Nat.lt_of_lt_of_le hc3247 (hx1.2.1 115)
  have hc3305 : (gN_ σ56 116) < gN_ σ3298 116 := Nat.lt_of_lt_of_le hc3248 (hx1.2.1 116)
  have hc3306 : (gN_ σ73 117) < gN_ σ3298 117 := Nat.lt_of_lt_of_le hc3249 (hx1.2.1 117)
  have hc3307 : (gN_ σ92 118) < gN_ σ3298 118 := Nat.lt_of_lt_of_le hc3250 (hx1.2.1 118)
  have hc3308 : (gN_ σ113 119) < gN_ σ3298 119 := Nat.lt_of_lt_of_le hc3251 (hx1.2.1 119)
  have hc3309 : (gN_ σ136 127) < gN_ σ3298 127 := Nat.lt_of_lt_of_le hc3252 (hx1.2.1 127)
  have hc3310 : (gN_ σ161 128) < gN_ σ3298 128 := Nat.lt_of_lt_of_le hc3253 (hx1.2.1 128)
  have hc3311 : (gN_ σ188 129) < gN_ σ3298 129 := Nat.lt_of_lt_of_le hc3254 (hx1.2.1 129)
  have hc3312 : (gN_ σ217 130) < gN_ σ3298 130 := Nat.lt_of_lt_of_le hc3255 (hx1.2.1 130)
  have hc3313 : (gN_ σ248 131) < gN_ σ3298 131 := Nat.lt_of_lt_of_le hc3256 (hx1.2.1 131)
  have hc3314 : (gN_ σ281 137) < gN_ σ3298 137 := Nat.lt_of_lt_of_le hc3257 (hx1.2.1 137)
  have hc3315 : (gN_ σ316 138) < gN_ σ3298 138 := Nat.lt_of_lt_of_le hc3258 (hx1.2.1 138)
  have hc3316 : (gN_ σ353 145) < gN_ σ3298 145 := Nat.lt_of_lt_of_le hc3259 (hx1.2.1 145)
  have hc3317 : (gN_ σ392 146) < gN_ σ3298 146 := Nat.lt_of_lt_of_le hc3260 (hx1.2.1 146)
  have hc3318 : (gN_ σ433 147) < gN_ σ3298 147 := Nat.lt_of_lt_of_le hc3261 (hx1.2.1 147)
  have hc3319 : (gN_ σ476 148) < gN_ σ3298 148 := Nat.lt_of_lt_of_le hc3262 (hx1.2.1 148)
  have hc3320 : (gN_ σ521 150) < gN_ σ3298 150 := Nat.lt_of_lt_of_le hc3263 (hx1.2.1 150)
  have hc3321 : (gN_ σ568 151) < gN_ σ3298 151 := Nat.lt_of_lt_of_le hc3264 (hx1.2.1 151)
  have hc3322 : (gN_ σ617 152) < gN_ σ3298 152 := Nat.lt_of_lt_of_le hc3265 (hx1.2.1 152)
  have hc3323 : (gN_ σ668 153) < gN_ σ3298 153 := Nat.lt_of_lt_of_le hc3266 (hx1.2.1 153)
  have hc3324 : (gN_ σ721 154) < gN_ σ3298 154 := Nat.lt_of_lt_of_le hc3267 (hx1.2.1 154)
  have hc3325 : (gN_ σ776 155) < gN_ σ3298 155 := Nat.lt_of_lt_of_le hc3268 (hx1.2.1 155)
  have hc3326 : (gN_ σ833 156) < gN_ σ3298 156 := Nat.lt_of_lt_of_le hc3269 (hx1.2.1 156)
  have hc3327 : (gN_ σ892 157) < gN_ σ3298 157 := Nat.lt_of_lt_of_le hc3270 (hx1.2.1 157)
  have hc3328 : (gN_ σ953 158) < gN_ σ3298 158 := Nat.lt_of_lt_of_le hc3271 (hx1.2.1 158)
  have hc3329 : (gN_ σ1016 163) < gN_ σ3298 163 := Nat.lt_of_lt_of_le hc3272 (hx1.2.1 163)
  have hc3330 : (gN_ σ1081 164) < gN_ σ3298 164 := Nat.lt_of_lt_of_le hc3273 (hx1.2.1 164)
  have hc3331 : (gN_ σ1148 165) < gN_ σ3298 165 := Nat.lt_of_lt_of_le hc3274 (hx1.2.1 165)
  have hc3332 : (gN_ σ1217 166) < gN_ σ3298 166 := Nat.lt_of_lt_of_le hc3275 (hx1.2.1 166)
  have hc3333 : (gN_ σ1288 171) < gN_ σ3298 171 := Nat.lt_of_lt_of_le hc3276 (hx1.2.1 171)
  have hc3334 : (gN_ σ1361 175) < gN_ σ3298 175 := Nat.lt_of_lt_of_le hc3277 (hx1.2.1 175)
  have hc3335 : (gN_ σ1436 176) < gN_ σ3298 176 := Nat.lt_of_lt_of_le hc3278 (hx1.2.1 176)
  have hc3336 : (gN_ σ1513 177) < gN_ σ3298 177 := Nat.lt_of_lt_of_le hc3279 (hx1.2.1 177)
  have hc3337 : (gN_ σ1592 178) < gN_ σ3298 178 := Nat.lt_of_lt_of_le hc3280 (hx1.2.1 178)
  have hc3338 : (gN_ σ1673 179) < gN_ σ3298 179 := Nat.lt_of_lt_of_le hc3281 (hx1.2.1 179)
  have hc3339 : (gN_ σ1756 182) < gN_ σ3298 182 := Nat.lt_of_lt_of_le hc3282 (hx1.2.1 182)
  have hc3340 : (gN_ σ1841 187) < gN_ σ3298 187 := Nat.lt_of_lt_of_le hc3283 (hx1.2.1 187)
  have hc3341 : (gN_ σ1928 188) < gN_ σ3298 188 := Nat.lt_of_lt_of_le hc3284 (hx1.2.1 188)
  have hc3342 : (gN_ σ2017 189) < gN_ σ3298 189 := Nat.lt_of_lt_of_le hc3285 (hx1.2.1 189)
  have hc3343 : (gN_ σ2108 190) < gN_ σ3298 190 := Nat.lt_of_lt_of_le hc3286 (hx1.2.1 190)
  have hc3344 : (gN_ σ2201 193) < gN_ σ3298 193 := Nat.lt_of_lt_of_le hc3287 (hx1.2.1 193)
  have hc3345 : (gN_ σ2296 194) < gN_ σ3298 194 := Nat.lt_of_lt_of_le hc3288 (hx1.2.1 194)
  have hc3346 : (gN_ σ2393 195) < gN_ σ3298 195 := Nat.lt_of_lt_of_le hc3289 (hx1.2.1 195)
  have hc3347 : (gN_ σ2492 196) < gN_ σ3298 196 := Nat.lt_of_lt_of_le hc3290 (hx1.2.1 196)
  have hc3348 : (gN_ σ2593 197) < gN_ σ3298 197 := Nat.lt_of_lt_of_le hc3291 (hx1.2.1 197)
  have hc3349 : (gN_ σ2696 198) < gN_ σ3298 198 := Nat.lt_of_lt_of_le hc3292 (hx1.2.1 198)
  have hc3350 : (gN_ σ2801 199) < gN_ σ3298 199 := Nat.lt_of_lt_of_le hc3293 (hx1.2.1 199)
  have hc3351 : (gN_ σ2908 200) < gN_ σ3298 200 := Nat.lt_of_lt_of_le hc3294 (hx1.2.1 200)
  have hc3352 : (gN_ σ3017 201) < gN_ σ3298 201 := Nat.lt_of_lt_of_le hc3295 (hx1.2.1 201)
  have hc3353 : (gN_ σ3128 202) < gN_ σ3298 202 := Nat.lt_of_lt_of_le hc3296 (hx1.2.1 202)
  have hc3354 : gN_ σ3241 206 < gN_ σ3298 206 := by rw [e3299]; exact nA_lt rfl
  rw [show ow_ 206 = 206 from rfl]
  have hl : lv_has ls 2 [(0, .ref (L 109 0))] := by rw [hx1.at hp3297 (by decide)]; exact hl
  refine ww_stk (st1 := [.ref (L 206 (gN_ σ3241 206)), .ref (L 109 0)]) (by rw [hx1.at hp3297 (by decide)]) ?_
  have hx0 := hx0.trans hx1
  obtain ⟨hc3355, hs⟩ := ww_chk hs
  have hpq : pr σ3298 206 (gN_ σ3241 206) := (pr_dy hc3354 rfl rfl)
  rw [hc3355] at hpq
  obtain ⟨σ3356, e3357, hs⟩ := ww_let hs
  refine ww_markF (d := (1, 206, 0)) hx hb hts hown (hnm.trans rfl) hW 109 0 96 0 (pr_dy hc3300 rfl rfl) (tgd_1 hpq) (obv_0 rfl) rfl (by decide) (Nat.le_of_ble_eq_true rfl) in_X10 tyX10_ok nmX10 rfl (Nat.le_of_ble_eq_true rfl) (hts _ q1789) (fun _ h => h) rfl rfl rfl (fun _ => rfl) (fun _ => rfl) (by rw [hc3355]; rfl) dX10_init_438 (fun H locs hW => ?_)
  have hW : wv g L σ3356 s H locs := by rw [e3357]; exact hW
  obtain ⟨hx0, hcs⟩ := lx_s (σ1 := σ3356) hx0 hcs (by rw [e3357]; exact (kp_M (by decide)))
  have hc3358 : 0 < gN_ σ3356 109 := by rw [e3357]; exact hc3300
  have hc3359 : (gN_ σ 112) < gN_ σ3356 112 := by rw [e3357]; exact hc3301
  have hc3360 : (gN_ σ17 113) < gN_ σ3356 113 := by rw [e3357]; exact hc3302
  have hc3361 : (gN_ σ28 114) < gN_ σ3356 114 := by rw [e3357]; exact hc3303
  have hc3362 : (gN_ σ41 115) < gN_ σ3356 115 := by rw [e3357]; exact hc3304
  have hc3363 : (gN_ σ56 116) < gN_ σ3356 116 := by rw [e3357]; exact hc3305
  have hc3364 : (gN_ σ73 117) < gN_ σ3356 117 := by rw [e3357]; exact hc3306
  have hc3365 : (gN_ σ92 118) < gN_ σ3356 118 := by rw [e3357]; exact hc3307
  have hc3366 : (gN_ σ113 119) < gN_ σ3356 119 := by rw [e3357]; exact hc3308
  have hc3367 : (gN_ σ136 127) < gN_ σ3356 127 := by rw [e3357]; exact hc3309
  have hc3368 : (gN_ σ161 128) < gN_ σ3356 128 := by rw [e3357]; exact hc3310
  have hc3369 : (gN_ σ188 129) < gN_ σ3356 129 := by rw [e3357]; exact hc3311
  have hc3370 : (gN_ σ217 130) < gN_ σ3356 130 := by rw [e3357]; exact hc3312
  have hc3371 : (gN_ σ248 131) < gN_ σ3356 131 := by rw [e3357]; exact hc3313
  have hc3372 : (gN_ σ281 137) < gN_ σ3356 137 := by rw [e3357]; exact hc3314
  have hc3373 : (gN_ σ316 138) < gN_ σ3356 138 := by rw [e3357]; exact hc3315
  have hc3374 : (gN_ σ353 145) < gN_ σ3356 145 := by rw [e3357]; exact hc3316
  have hc3375 : (gN_ σ392 146) < gN_ σ3356 146 := by rw [e3357]; exact hc3317
  have hc3376 : (gN_ σ433 147) < gN_ σ3356 147 := by rw [e3357]; exact hc3318
  have hc3377 : (gN_ σ476 148) < gN_ σ3356 148 := by rw [e3357]; exact hc3319
  have hc3378 : (gN_ σ521 150) < gN_ σ3356 150 := by rw [e3357]; exact hc3320
  have hc3379 : (gN_ σ568 151) < gN_ σ3356 151 := by rw [e3357]; exact hc3321
  have hc3380 : (gN_ σ617 152) < gN_ σ3356 152 := by rw [e3357]; exact hc3322
  have hc3381 : (gN_ σ668 153) < gN_ σ3356 153 := by rw [e3357]; exact hc3323
  have hc3382 : (gN_ σ721 154) < gN_ σ3356 154 := by rw [e3357]; exact hc3324
  have hc3383 : (gN_ σ776 155) < gN_ σ3356 155 := by rw [e3357]; exact hc3325
  have hc3384 : (gN_ σ833 156) < gN_ σ3356 156 := by rw [e3357]; exact hc3326
  have hc3385 : (gN_ σ892 157) < gN_ σ3356 157 := by rw [e3357]; exact hc3327
  have hc3386 : (gN_ σ953 158) < gN_ σ3356 158 := by rw [e3357]; exact hc3328
  have hc3387 : (gN_ σ1016 163) < gN_ σ3356 163 := by rw [e3357]; exact hc3329
  have hc3388 : (gN_ σ1081 164) < gN_ σ3356 164 := by rw [e3357]; exact hc3330
  have hc3389 : (gN_ σ1148 165) < gN_ σ3356 165 := by rw [e3357]; exact hc3331
  have hc3390 : (gN_ σ1217 166) < gN_ σ3356 166 := by rw [e3357]; exact hc3332
  have hc3391 : (gN_ σ1288 171) < gN_ σ3356 171 := by rw [e3357]; exact hc3333
  have hc3392 : (gN_ σ1361 175) < gN_ σ3356 175 := by rw [e3357]; exact hc3334
  have hc3393 : (gN_ σ1436 176) < gN_ σ3356 176 := by rw [e3357]; exact hc3335
  have hc3394 : (gN_ σ1513 177) < gN_ σ3356 177 := by rw [e3357]; exact hc3336
  have hc3395 : (gN_ σ1592 178) < gN_ σ3356 178 := by rw [e3357]; exact hc3337
  have hc3396 : (gN_ σ1673 179) < gN_ σ3356 179 := by rw [e3357]; exact hc3338
  have hc3397 : (gN_ σ1756 182) < gN_ σ3356 182 := by rw [e3357]; exact hc3339
  have hc3398 : (gN_ σ1841 187) < gN_ σ3356 187 := by rw [e3357]; exact hc3340
  have hc3399 : (gN_ σ1928 188) < gN_ σ3356 188 := by rw [e3357]; exact hc3341
  have hc3400 : (gN_ σ2017 189) < gN_ σ3356 189 := by rw [e3357]; exact hc3342
  have hc3401 : (gN_ σ2108 190) < gN_ σ3356 190 := by rw [e3357]; exact hc3343
  have hc3402 : (gN_ σ2201 193) < gN_ σ3356 193 := by rw [e3357]; exact hc3344
  have hc3403 : (gN_ σ2296 194) < gN_ σ3356 194 := by rw [e3357]; exact hc3345
  have hc3404 : (gN_ σ2393 195) < gN_ σ3356 195 := by rw [e3357]; exact hc3346
  have hc3405 : (gN_ σ2492 196) < gN_ σ3356 196 := by rw [e3357]; exact hc3347
  have hc3406 : (gN_ σ2593 197) < gN_ σ3356 197 := by rw [e3357]; exact hc3348
  have hc3407 : (gN_ σ2696 198) < gN_ σ3356 198 := by rw [e3357]; exact hc3349
  have hc3408 : (gN_ σ2801 199) < gN_ σ3356 199 := by rw [e3357]; exact hc3350
  have hc3409 : (gN_ σ2908 200) < gN_ σ3356 200 := by rw [e3357]; exact hc3351
  have hc3410 : (gN_ σ3017 201) < gN_ σ3356 201 := by rw [e3357]; exact hc3352
  have hc3411 : (gN_ σ3128 202) < gN_ σ3356 202 := by rw [e3357]; exact hc3353
  have hc3412 : (gN_ σ3241 206) < gN_ σ3356 206 := by rw [e3357]; exact hc3354
  refine lv_aload_n hx hb dX10_init_441 rfl (lv_at hl 0 rfl) ?_
  refine lv_bipush (v := 10) hx hb dX10_init_442 (by decide) ?_
  have hp3413 : pr σ3356 109 0 := (pr_dy hc3358 rfl rfl)
  obtain ⟨σ3414, e3415, hs⟩ := ww_let hs
  obtain ⟨hs, hck⟩ := ww_ck1 hs
  have hrm1 := hcs.room (σ1 := σ3414) (a := 1) (b := 10) (by rw [e3415]; rfl) (by rw [e3415]; rfl) hck
  refine ww_newa (atype := .int) hx hb (hts _ q201) hW 207 0 10 (Or.inl rfl) sole_207 (Or.inr hgm) rfl rfl rfl (by decide) rfl (Nat.le_of_ble_eq_true rfl) hrm1.1 hrm1.2 dX10_init_444 (fun H L hx1 hW => ?_)
  rw [← e3415] at hx1 hW
  have hcs := hcs.more (σ1 := σ3414) (a := 1) (b := 10) (by rw [e3415]; rfl) (by rw [e3415]; rfl)
  have hrm := hrm1
  have hc3416 : 0 < gN_ σ3414 109 := Nat.lt_of_lt_of_le hc3358 (hx1.2.1 109)
  have hc3417 : (gN_ σ 112) < gN_ σ3414 112 := Nat.lt_of_lt_of_le hc3359 (hx1.2.1 112)
  have hc3418 : (gN_ σ17 113) < gN_ σ3414 113 := Nat.lt_of_lt_of_le hc3360 (hx1.2.1 113)
  have hc3419 : (gN_ σ28 114) < gN_ σ3414 114 := Nat.lt_of_lt_of_le hc3361 (hx1.2.1 114)
  have hc3420 : (gN_ σ41 115) < gN_ σ3414 115 := Nat.lt_of_lt_of_le hc3362 (hx1.2.1 115)
  have hc3421 : (gN_ σ56 116) < gN_ σ3414 116 := Nat.lt_of_lt_of_le hc3363 (hx1.2.1 116)
  have hc3422 : (gN_ σ73 117) < gN_ σ3414 117 := Nat.lt_of_lt_of_le hc3364 (hx1.2.1 117)
  have hc3423 : (gN_ σ92 118) < gN_ σ3414 118 := Nat.lt_of_lt_of_le hc3365 (hx1.2.1 118)
  have hc3424 : (gN_ σ113 119) < gN_ σ3414 119 := Nat.lt_of_lt_of_le hc3366 (hx1.2.1 119)
  have hc3425 : (gN_ σ136 127) < gN_ σ3414 127 := Nat.lt_of_lt_of_le hc3367 (hx1.2.1 127)
  have hc3426 : (gN_ σ161 128) < gN_ σ3414 128 := Nat.lt_of_lt_of_le hc3368 (hx1.2.1 128)
  have hc3427 : (gN_ σ188 129) < gN_ σ3414 129 := Nat.lt_of_lt_of_le hc3369 (hx1.2.1 129)
  have hc3428 : (gN_ σ217 130) < gN_ σ3414 130 := Nat.lt_of_lt_of_le hc3370 (hx1.2.1 130)
  have hc3429 : (gN_ σ248 131) < gN_ σ3414 131 := Nat.lt_of_lt_of_le hc3371 (hx1.2.1 131)
  have hc3430 : (gN_ σ281 137) < gN_ σ3414 137 := Nat.lt_of_lt_of_le hc3372 (hx1.2.1 137)
  have hc3431 : (gN_ σ316 138) < gN_ σ3414 138 := Nat.lt_of_lt_of_le hc3373 (hx1.2.1 138)
  have hc3432 : (gN_ σ353 145) < gN_ σ3414 145 := Nat.lt_of_lt_of_le hc3374 (hx1.2.1 145)
  have hc3433 : (gN_ σ392 146) < gN_ σ3414 146 := Nat.lt_of_lt_of_le hc3375 (hx1.2.1 146)
  have hc3434 : (gN_ σ433 147) < gN_ σ3414 147 := Nat.lt_of_lt_of_le hc3376 (hx1.2.1 147)
  have hc3435 : (gN_ σ476 148) < gN_ σ3414 148 := Nat.lt_of_lt_of_le hc3377 (hx1.2.1 148)
  have hc3436 : (gN_ σ521 150) < gN_ σ3414 150 := Nat.lt_of_lt_of_le hc3378 (hx1.2.1 150)
  have hc3437 : (gN_ σ568 151) < gN_ σ3414 151 := Nat.lt_of_lt_of_le hc3379 (hx1.2.1 151)
  have hc3438 : (gN_ σ617 152) < gN_ σ3414 152 := Nat.lt_of_lt_of_le hc3380 (hx1.2.1 152)
  have hc3439 : (gN_ σ668 153) < gN_ σ3414 153 := Nat.lt_of_lt_of_le hc3381 (hx1.2.1 153)
  have hc3440 : (gN_ σ721 154) < gN_ σ3414 154 := Nat.lt_of_lt_of_le hc3382 (hx1.2.1 154)
  have hc3441 : (gN_ σ776 155) < gN_ σ3414 155 := Nat.lt_of_lt_of_le hc3383 (hx1.2.1 155)
  have hc3442 : (gN_ σ833 156) < gN_ σ3414 156 := Nat.lt_of_lt_of_le hc3384 (hx1.2.1 156)
  have hc3443 : (gN_ σ892 157) < gN_ σ3414 157 := Nat.lt_of_lt_of_le hc3385 (hx1.2.1 157)
  have hc3444 : (gN_ σ953 158) < gN_ σ3414 158 := Nat.lt_of_lt_of_le hc3386 (hx1.2.1 158)
  have hc3445 : (gN_ σ1016 163) < gN_ σ3414 163 := Nat.lt_of_lt_of_le hc3387 (hx1.2.1 163)
  have hc3446 : (gN_ σ1081 164) < gN_ σ3414 164 := Nat.lt_of_lt_of_le hc3388 (hx1.2.1 164)
  have hc3447 : (gN_ σ1148 165) < gN_ σ3414 165 := Nat.lt_of_lt_of_le hc3389 (hx1.2.1 165)
  have hc3448 : (gN_ σ1217 166) < gN_ σ3414 166 := Nat.lt_of_lt_of_le hc3390 (hx1.2.1 166)
  have hc3449 : (gN_ σ1288 171) < gN_ σ3414 171 := Nat.lt_of_lt_of_le hc3391 (hx1.2.1 171)
  have hc3450 : (gN_ σ1361 175) < gN_ σ3414 175 := Nat.lt_of_lt_of_le hc3392 (hx1.2.1 175)
  have hc3451 : (gN_ σ1436 176) < gN_ σ3414 176 := Nat.lt_of_lt_of_le hc3393 (hx1.2.1 176)
  have hc3452 : (gN_ σ1513 177) < gN_ σ3414 177 := Nat.lt_of_lt_of_le hc3394 (hx1.2.1 177)
  have hc3453 : (gN_ σ1592 178) < gN_ σ3414 178 := Nat.lt_of_lt_of_le hc3395 (hx1.2.1 178)
  have hc3454 : (gN_ σ1673 179) < gN_ σ3414 179 := Nat.lt_of_lt_of_le hc3396 (hx1.2.1 179)
  have hc3455 : (gN_ σ1756 182) < gN_ σ3414 182 := Nat.lt_of_lt_of_le hc3397 (hx1.2.1 182)
  have hc3456 : (gN_ σ1841 187) < gN_ σ3414 187 := Nat.lt_of_lt_of_le hc3398 (hx1.2.1 187)
  have hc3457 : (gN_ σ1928 188) < gN_ σ3414 188 := Nat.lt_of_lt_of_le hc3399 (hx1.2.1 188)
  have hc3458 : (gN_ σ2017 189) < gN_ σ3414 189 := Nat.lt_of_lt_of_le hc3400 (hx1.2.1 189)
  have hc3459 : (gN_ σ2108 190) < gN_ σ3414 190 := Nat.lt_of_lt_of_le hc3401 (hx1.2.1 190)
  have hc3460 : (gN_ σ2201 193) < gN_ σ3414 193 := Nat.lt_of_lt_of_le hc3402 (hx1.2.1 193)
  have hc3461 : (gN_ σ2296 194) < gN_ σ3414 194 := Nat.lt_of_lt_of_le hc3403 (hx1.2.1 194)
  have hc3462 : (gN_ σ2393 195) < gN_ σ3414 195 := Nat.lt_of_lt_of_le hc3404 (hx1.2.1 195)
  have hc3463 : (gN_ σ2492 196) < gN_ σ3414 196 := Nat.lt_of_lt_of_le hc3405 (hx1.2.1 196)
  have hc3464 : (gN_ σ2593 197) < gN_ σ3414 197 := Nat.lt_of_lt_of_le hc3406 (hx1.2.1 197)
  have hc3465 : (gN_ σ2696 198) < gN_ σ3414 198 := Nat.lt_of_lt_of_le hc3407 (hx1.2.1 198)
  have hc3466 : (gN_ σ2801 199) < gN_ σ3414 199 := Nat.lt_of_lt_of_le hc3408 (hx1.2.1 199)
  have hc3467 : (gN_ σ2908 200) < gN_ σ3414 200 := Nat.lt_of_lt_of_le hc3409 (hx1.2.1 200)
  have hc3468 : (gN_ σ3017 201) < gN_ σ3414 201 := Nat.lt_of_lt_of_le hc3410 (hx1.2.1 201)
  have hc3469 : (gN_ σ3128 202) < gN_ σ3414 202 := Nat.lt_of_lt_of_le hc3411 (hx1.2.1 202)
  have hc3470 : (gN_ σ3241 206) < gN_ σ3414 206 := Nat.lt_of_lt_of_le hc3412 (hx1.2.1 206)
  have hc3471 : gN_ σ3356 207 < gN_ σ3414 207 := by rw [e3415]; exact nA_lt rfl
  rw [show ow_ 207 = 207 from rfl]
  have hl : lv_has ls 2 [(0, .ref (L 109 0))] := by rw [hx1.at hp3413 (by decide)]; exact hl
  refine ww_stk (st1 := [.ref (L 207 (gN_ σ3356 207)), .ref (L 109 0)]) (by rw [hx1.at hp3413 (by decide)]) ?_
  have hx0 := hx0.trans hx1
  obtain ⟨hc3472, hs⟩ := ww_chk hs
  have hpq : pr σ3414 207 (gN_ σ3356 207) := (pr_dy hc3471 rfl rfl)
  rw [hc3472] at hpq
  obtain ⟨σ3473, e3474, hs⟩ := ww_let hs
  refine ww_markF (d := (1, 207, 0)) hx hb hts hown (hnm.trans rfl) hW 109 0 97 0 (pr_dy hc3416 rfl rfl) (tgd_1 hpq) (obv_0 rfl) rfl (by decide) (Nat.le_of_ble_eq_true rfl) in_X10 tyX10_ok nmX10 rfl (Nat.le_of_ble_eq_true rfl) (hts _ q1790) (fun _ h => h) rfl rfl rfl (fun _ => rfl) (fun _ => rfl) (by rw [hc3472]; rfl) dX10_init_446 (fun H locs hW => ?_)
  have hW : wv g L σ3473 s H locs := by rw [e3474]; exact hW
  obtain ⟨hx0, hcs⟩ := lx_s (σ1 := σ3473) hx0 hcs (by rw [e3474]; exact (kp_M (by decide)))
  have hc3475 : 0 < gN_ σ3473 109 := by rw [e3474]; exact hc3416
  have hc3476 : (gN_ σ 112) < gN_ σ3473 112 := by rw [e3474]; exact hc3417
  have hc3477 : (gN_ σ17 113) < gN_ σ3473 113 := by rw [e3474]; exact hc3418
  have hc3478 : (gN_ σ28 114) < gN_ σ3473 114 := by rw [e3474]; exact hc3419
  have hc3479 : (gN_ σ41 115) < gN_ σ3473 115 := by rw [e3474]; exact hc3420
  have hc3480 : (gN_ σ56 116) < gN_ σ3473 116 := by rw [e3474]; exact hc3421
  have hc3481 : (gN_ σ73 117) < gN_ σ3473 117 := by rw [e3474]; exact hc3422
  have hc3482 : (gN_ σ92 118) < gN_ σ3473 118 := by rw [e3474]; exact hc3423
  have hc3483 : (gN_ σ113 119) < gN_ σ3473 119 := by rw [e3474]; exact hc3424
  have hc3484 : (gN_ σ136 127) < gN_ σ3473 127 := by rw [e3474]; exact hc3425
  have hc3485 : (gN_ σ161 128) < gN_ σ3473 128 := by rw [e3474]; exact hc3426
  have hc3486 : (gN_ σ188 129) < gN_ σ3473 129 := by rw [e3474]; exact hc3427
  have hc3487 : (gN_ σ217 130) < gN_ σ3473 130 := by rw [e3474]; exact hc3428
  have hc3488 : (gN_ σ248 131) < gN_ σ3473 131 := by rw [e3474]; exact hc3429
  have hc3489 : (gN_ σ281 137) < gN_ σ3473 137 := by rw [e3474]; exact hc3430
  have hc3490 : (gN_ σ316 138) < gN_ σ3473 138 := by rw [e3474]; exact hc3431
  have hc3491 : (gN_ σ353 145) < gN_ σ3473 145 := by rw [e3474]; exact hc3432
  have hc3492 : (gN_ σ392 146) < gN_ σ3473 146 := by rw [e3474]; exact hc3433
  have hc3493 : (gN_ σ433 147) < gN_ σ3473 147 := by rw [e3474]; exact hc3434
  have hc3494 : (gN_ σ476 148) < gN_ σ3473 148 := by rw [e3474]; exact hc3435
  have hc3495 : (gN_ σ521 150) < gN_ σ3473 150 := by rw [e3474]; exact hc3436
  have hc3496 : (gN_ σ568 151) < gN_ σ3473 151 := by rw [e3474]; exact hc3437
  have hc3497 : (gN_ σ617 152) < gN_ σ3473 152 := by rw [e3474]; exact hc3438
  have hc3498 : (gN_ σ668 153) < gN_ σ3473 153 := by rw [e3474]; exact hc3439
  have hc3499 : (gN_ σ721 154) < gN_ σ3473 154 := by rw [e3474]; exact hc3440
  have hc3500 : (gN_ σ776 155) < gN_ σ3473 155 := by rw [e3474]; exact hc3441
  have hc3501 : (gN_ σ833 156) < gN_ σ3473 156 := by rw [e3474]; exact hc3442
  have hc3502 : (gN_ σ892 157) < gN_ σ3473 157 := by rw [e3474]; exact hc3443
  have hc3503 : (gN_ σ953 158) < gN_ σ3473 158 := by rw [e3474]; exact hc3444
  have hc3504 : (gN_ σ1016 163) < gN_ σ3473 163 := by rw [e3474]; exact hc3445
  have hc3505 : (gN_ σ1081 164) < gN_ σ3473 164 := by rw [e3474]; exact hc3446
  have hc3506 : (gN_ σ1148 165) < gN_ σ3473 165 := by rw [e3474]; exact hc3447
  have hc3507 : (gN_ σ1217 166) < gN_ σ3473 166 := by rw [e3474]; exact hc3448
  have hc3508 : (gN_ σ1288 171) < gN_ σ3473 171 := by rw [e3474]; exact hc3449
  have hc3509 : (gN_ σ1361 175) < gN_ σ3473 175 := by rw [e3474]; exact hc3450
  have hc3510 : (gN_ σ1436 176) < gN_ σ3473 176 := by rw [e3474]; exact hc3451
  have hc3511 : (gN_ σ1513 177) < gN_ σ3473 177 := by rw [e3474]; exact hc3452
  have hc3512 : (gN_ σ1592 178) < gN_ σ3473 178 := by rw [e3474]; exact hc3453
  have hc3513 : (gN_ σ1673 179) < gN_ σ3473 179 := by rw [e3474]; exact hc3454
  have hc3514 : (gN_ σ1756 182) < gN_ σ3473 182 := by rw [e3474]; exact hc3455
  have hc3515 : (gN_ σ1841 187) < gN_ σ3473 187 := by rw [e3474]; exact hc3456
  have hc3516 : (gN_ σ1928 188) < gN_ σ3473 188 := by rw [e3474]; exact hc3457
  have hc3517 : (gN_ σ2017 189) < gN_ σ3473 189 := by rw [e3474]; exact hc3458
  have hc3518 : (gN_ σ2108 190) < gN_ σ3473 190 := by rw [e3474]; exact hc3459
  have hc3519 : (gN_ σ2201 193) < gN_ σ3473 193 := by rw [e3474]; exact hc3460
  have hc3520 : (gN_ σ2296 194) < gN_ σ3473 194 := by rw [e3474]; exact hc3461
  have hc3521 : (gN_ σ2393 195) < gN_ σ3473 195 := by rw [e3474]; exact hc3462
  have hc3522 : (gN_ σ2492 196) < gN_ σ3473 196 := by rw [e3474]; exact hc3463
  have hc3523 : (gN_ σ2593 197) < gN_ σ3473 197 := by rw [e3474]; exact hc3464
  have hc3524 : (gN_ σ2696 198) < gN_ σ3473 198 := by rw [e3474]; exact hc3465
  have hc3525 : (gN_ σ2801 199) < gN_ σ3473 199 := by rw [e3474]; exact hc3466
  have hc3526 : (gN_ σ2908 200) < gN_ σ3473 200 := by rw [e3474]; exact hc3467
  have hc3527 : (gN_ σ3017 201) < gN_ σ3473 201 := by rw [e3474]; exact hc3468
  have hc3528 : (gN_ σ3128 202) < gN_ σ3473 202 := by rw [e3474]; exact hc3469
  have hc3529 : (gN_ σ3241 206) < gN_ σ3473 206 := by rw [e3474]; exact hc3470
  have hc3530 : (gN_ σ3356 207) < gN_ σ3473 207 := by rw [e3474]; exact hc3471
  refine lv_aload_n hx hb dX10_init_449 rfl (lv_at hl 0 rfl) ?_
  refine lv_bipush (v := 10) hx hb dX10_init_450 (by decide) ?_
  have hp3531 : pr σ3473 109 0 := (pr_dy hc3475 rfl rfl)
  obtain ⟨σ3532, e3533, hs⟩ := ww_let hs
  obtain ⟨hs, hck⟩ := ww_ck1 hs
  have hrm1 := hcs.room (σ1 := σ3532) (a := 1) (b := 10) (by rw [e3533]; rfl) (by rw [e3533]; rfl) hck
  refine ww_newa (atype := .int) hx hb (hts _ q201) hW 208 0 10 (Or.inl rfl) sole_208 (Or.inr hgm) rfl rfl rfl (by decide) rfl (Nat.le_of_ble_eq_true rfl) hrm1.1 hrm1.2 dX10_init_452 (fun H L hx1 hW => ?_)
  rw [← e3533] at hx1 hW
  have hcs := hcs.more (σ1 := σ3532) (a := 1) (b := 10) (by rw [e3533]; rfl) (by rw [e3533]; rfl)
  have hrm := hrm1
  have hc3534 : 0 < gN_ σ3532 109 := Nat.lt_of_lt_of_le hc3475 (hx1.2.1 109)
  have hc3535 : (gN_ σ 112) < gN_ σ3532 112 := Nat.lt_of_lt_of_le hc3476 (hx1.2.1 112)
  have hc3536 : (gN_ σ17 113) < gN_ σ3532 113 := Nat.lt_of_lt_of_le hc3477 (hx1.2.1 113)
  have hc3537 : (gN_ σ28 114) < gN_ σ3532 114 := Nat.lt_of_lt_of_le hc3478 (hx1.2.1 114)
  have hc3538 : (gN_ σ41 115) < gN_ σ3532 115 := Nat.lt_of_lt_of_le hc3479 (hx1.2.1 115)
  have hc3539 : (gN_ σ56 116) < gN_ σ3532 116 := Nat.lt_of_lt_of_le hc3480 (hx1.2.1 116)
  have hc3540 : (gN_ σ73 117) < gN_ σ3532 117 := Nat.lt_of_lt_of_le hc3481 (hx1.2.1 117)
  have hc3541 : (gN_ σ92 118) < gN_ σ3532 118 := Nat.lt_of_lt_of_le hc3482 (hx1.2.1 118)
  have hc3542 : (gN_ σ113 119) < gN_ σ3532 119 := Nat.lt_of_lt_of_le hc3483 (hx1.2.1 119)
  have hc3543 : (gN_ σ136 127) < gN_ σ3532 127 := Nat.lt_of_lt_of_le hc3484 (hx1.2.1 127)
  have hc3544 : (gN_ σ161 128) < gN_ σ3532 128 := Nat.lt_of_lt_of_le hc3485 (hx1.2.1 128)
  have hc3545 : (gN_ σ188 129) < gN_ σ3532 129 := Nat.lt_of_lt_of_le hc3486 (hx1.2.1 129)
  have hc3546 : (gN_ σ217 130) < gN_ σ3532 130 := Nat.lt_of_lt_of_le hc3487 (hx1.2.1 130)
  have hc3547 : (gN_ σ248 131) < gN_ σ3532 131 := Nat.lt_of_lt_of_le hc3488 (hx1.2.1 131)
  have hc3548 : (gN_ σ281 137) < gN_ σ3532 137 := Nat.lt_of_lt_of_le hc3489 (hx1.2.1 137)
  have hc3549 : (gN_ σ316 138) < gN_ σ3532 138 := Nat.lt_of_lt_of_le hc3490 (hx1.2.1 138)
  have hc3550 : (gN_ σ353 145) < gN_ σ3532 145 := Nat.lt_of_lt_of_le hc3491 (hx1.2.1 145)
  have hc3551 : (gN_ σ392 146) < gN_ σ3532 146 := Nat.lt_of_lt_of_le hc3492 (hx1.2.1 146)
  have hc3552 : (gN_ σ433 147) < gN_ σ3532 147 := Nat.lt_of_lt_of_le hc3493 (hx1.2.1 147)
  have hc3553 : (gN_ σ476 148) < gN_ σ3532 148 := Nat.lt_of_lt_of_le hc3494 (hx1.2.1 148)
  have hc3554 : (gN_ σ521 150) < gN_ σ3532 150 := Nat.lt_of_lt_of_le hc3495 (hx1.2.1 150)
  have hc3555 : (gN_ σ568 151) < gN_ σ3532 151 := Nat.lt_of_lt_of_le hc3496 (hx1.2.1 151)
  have hc3556 : (gN_ σ617 152) < gN_ σ3532 152 := Nat.lt_of_lt_of_le hc3497 (hx1.2.1 152)
  have hc3557 : (gN_ σ668 153) < gN_ σ3532 153 := Nat.lt_of_lt_of_le hc3498 (hx1.2.1 153)
  have hc3558 : (gN_ σ721 154) < gN_ σ3532 154 := Nat.lt_of_lt_of_le hc3499 (hx1.2.1 154)
  have hc3559 : (gN_ σ776 155) < gN_ σ3532 155 := Nat.lt_of_lt_of_le hc3500 (hx1.2.1 155)
  have hc3560 : (gN_ σ833 156) < gN_ σ3532 156 := Nat.lt_of_lt_of_le hc3501 (hx1.2.1 156)
  have hc3561 : (gN_ σ892 157) < gN_ σ3532 157 := Nat.lt_of_lt_of_le hc3502 (hx1.2.1 157)
  have hc3562 : (gN_ σ953 158) < gN_ σ3532 158 := Nat.lt_of_lt_of_le hc3503 (hx1.2.1 158)
  have hc3563 : (gN_ σ1016 163) < gN_ σ3532 163 := Nat.lt_of_lt_of_le hc3504 (hx1.2.1 163)
  have hc3564 : (gN_ σ1081 164) < gN_ σ3532 164 := Nat.lt_of_lt_of_le hc3505 (hx1.2.1 164)
  have hc3565 : (gN_ σ1148 165) < gN_ σ3532 165 := Nat.lt_of_lt_of_le hc3506 (hx1.2.1 165)
  have hc3566 : (gN_ σ1217 166) < gN_ σ3532 166 := Nat.lt_of_lt_of_le hc3507 (hx1.2.1 166)
  have hc3567 : (gN_ σ1288 171) < gN_ σ3532 171 := Nat.lt_of_lt_of_le hc3508 (hx1.2.1 171)
  have hc3568 : (gN_ σ1361 175) < gN_ σ3532 175 := Nat.lt_of_lt_of_le hc3509 (hx1.2.1 175)
  have hc3569 : (gN_ σ1436 176) < gN_ σ3532 176 := Nat.lt_of_lt_of_le hc3510 (hx1.2.1 176)
  have hc3570 : (gN_ σ1513 177) < gN_ σ3532 177 := Nat.lt_of_lt_of_le hc3511 (hx1.2.1 177)
  have hc3571 : (gN_ σ1592 178) < gN_ σ3532 178 := Nat.lt_of_lt_of_le hc3512 (hx1.2.1 178)
  have hc3572 : (gN_ σ1673 179) < gN_ σ3532 179 := Nat.lt_of_lt_of_le hc3513 (hx1.2.1 179)
  have hc3573 : (gN_ σ1756 182) < gN_ σ3532 182 := Nat.lt_of_lt_of_le hc3514 (hx1.2.1 182)
  have hc3574 : (gN_ σ1841 187) < gN_ σ3532 187 := Nat.lt_of_lt_of_le hc3515 (hx1.2.1 187)
  have hc3575 : (gN_ σ1928 188) < gN_ σ3532 188 := Nat.lt_of_lt_of_le hc3516 (hx1.2.1 188)
  have hc3576 : (gN_ σ2017 189) < gN_ σ3532 189 := Nat.lt_of_lt_of_le hc3517 (hx1.2.1 189)
  have hc3577 : (gN_ σ2108 190) < gN_ σ3532 190 := Nat.lt_of_lt_of_le hc3518 (hx1.2.1 190)
  have hc3578 : (gN_ σ2201 193) < gN_ σ3532 193 := Nat.lt_of_lt_of_le hc3519 (hx1.2.1 193)
  have hc3579 : (gN_ σ2296 194) < gN_ σ3532 194 := Nat.lt_of_lt_of_le hc3520 (hx1.2.1 194)
  have hc3580 : (gN_ σ2393 195) < gN_ σ3532 195 := Nat.lt_of_lt_of_le hc3521 (hx1.2.1 195)
  have hc3581 : (gN_ σ2492 196) < gN_ σ3532 196 := Nat.lt_of_lt_of_le hc3522 (hx1.2.1 196)
  have hc3582 : (gN_ σ2593 197) < gN_ σ3532 197 := Nat.lt_of_lt_of_le hc3523 (hx1.2.1 197)
  have hc3583 : (gN_ σ2696 198) < gN_ σ3532 198 := Nat.lt_of_lt_of_le hc3524 (hx1.2.1 198)
  have hc3584 : (gN_ σ2801 199) < gN_ σ3532 199 := Nat.lt_of_lt_of_le hc3525 (hx1.2.1 199)
  have hc3585 : (gN_ σ2908 200) < gN_ σ3532 200 := Nat.lt_of_lt_of_le hc3526 (hx1.2.1 200)
  have hc3586 : (gN_ σ3017 201) < gN_ σ3532 201 := Nat.lt_of_lt_of_le hc3527 (hx1.2.1 201)
  have hc3587 : (gN_ σ3128 202) < gN_ σ3532 202 := Nat.lt_of_lt_of_le hc3528 (hx1.2.1 202)
  have hc3588 : (gN_ σ3241 206) < gN_ σ3532 206 := Nat.lt_of_lt_of_le hc3529 (hx1.2.1 206)
  have hc3589 : (gN_ σ3356 207) < gN_ σ3532 207 := Nat.lt_of_lt_of_le hc3530 (hx1.2.1 207)
  have hc3590 : gN_ σ3473 208 < gN_ σ3532 208 := by rw [e3533]; exact nA_lt rfl
  rw [show ow_ 208 = 208 from rfl]
  have hl : lv_has ls 2 [(0, .ref (L 109 0))] := by rw [hx1.at hp3531 (by decide)]; exact hl
  refine ww_stk (st1 := [.ref (L 208 (gN_ σ3473 208)), .ref (L 109 0)]) (by rw [hx1.at hp3531 (by decide)]) ?_
  have hx0 := hx0.trans hx1
  obtain ⟨hc3591, hs⟩ := ww_chk hs
  have hpq : pr σ3532 208 (gN_ σ3473 208) := (pr_dy hc3590 rfl rfl)
  rw [hc3591] at hpq
  obtain ⟨σ3592, e3593, hs⟩ := ww_let hs
  refine ww_markF (d := (1, 208, 0)) hx hb hts hown (hnm.trans rfl) hW 109 0 98 0 (pr_dy hc3534 rfl rfl) (tgd_1 hpq) (obv_0 rfl) rfl (by decide) (Nat.le_of_ble_eq_true rfl) in_X10 tyX10_ok nmX10 rfl (Nat.le_of_ble_eq_true rfl) (hts _ q1791) (fun _ h => h) rfl rfl rfl (fun _ => rfl) (fun _ => rfl) (by rw [hc3591]; rfl) dX10_init_454 (fun H locs hW => ?_)
  have hW : wv g L σ3592 s H locs := by rw [e3593]; exact hW
  obtain ⟨hx0, hcs⟩ := lx_s (σ1 := σ3592) hx0 hcs (by rw [e3593]; exact (kp_M (by decide)))
  have hc3594 : 0 < gN_ σ3592 109 := by rw [e3593]; exact hc3534
  have hc3595 : (gN_ σ 112) < gN_ σ3592 112 := by rw [e3593]; exact hc3535
  have hc3596 : (gN_ σ17 113) < gN_ σ3592 113 := by rw [e3593]; exact hc3536
  have hc3597 : (gN_ σ28 114) < gN_ σ3592 114 := by rw [e3593]; exact hc3537
  have hc3598 : (gN_ σ41 115) < gN_ σ3592 115 := by rw [e3593]; exact hc3538
  have hc3599 : (gN_ σ56 116) < gN_ σ3592 116 := by rw [e3593]; exact hc3539
  have hc3600 : (gN_ σ73 117) < gN_ σ3592 117 := by rw [e3593]; exact hc3540
  have hc3601 : (gN_ σ92 118) < gN_ σ3592 118 := by rw [e3593]; exact hc3541
  have hc3602 : (gN_ σ113 119) < gN_ σ3592 119 := by rw [e3593]; exact hc3542
  have hc3603 : (gN_ σ136 127) < gN_ σ3592 127 := by rw [e3593]; exact hc3543
  have hc3604 : (gN_ σ161 128) < gN_ σ3592 128 := by rw [e3593]; exact hc3544
  have hc3605 : (gN_ σ188 129) < gN_ σ3592 129 := by rw [e3593]; exact hc3545
  have hc3606 : (gN_ σ217 130) < gN_ σ3592 130 := by rw [e3593]; exact hc3546
  have hc3607 : (gN_ σ248 131) < gN_ σ3592 131 := by rw [e3593]; exact hc3547
  have hc3608 : (gN_ σ281 137) < gN_ σ3592 137 := by rw [e3593]; exact hc3548
  have hc3609 : (gN_ σ316 138) < gN_ σ3592 138 := by rw [e3593]; exact hc3549
  have hc3610 : (gN_ σ353 145) < gN_ σ3592 145 := by rw [e3593]; exact hc3550
  have hc3611 : (gN_ σ392 146) < gN_ σ3592 146 := by rw [e3593]; exact hc3551
  have hc3612 : (gN_ σ433 147) < gN_ σ3592 147 := by rw [e3593]; exact hc3552
  have hc3613 : (gN_ σ476 148) < gN_ σ3592 148 := by rw [e3593]; exact hc3553
  have hc3614 : (gN_ σ521 150) < gN_ σ3592 150 := by rw [e3593]; exact hc3554
  have hc3615 : (gN_ σ568 151) < gN_ σ3592 151 := by rw [e3593]; exact hc3555
  have hc3616 : (gN_ σ617 152) < gN_ σ3592 152 := by rw [e3593]; exact hc3556
  have hc3617 : (gN_ σ668 153) < gN_ σ3592 153 := by rw [e3593]; exact hc3557
  have hc3618 : (gN_ σ721 154) < gN_ σ3592 154 := by rw [e3593]; exact hc3558
  have hc3619 : (gN_ σ776 155) < gN_ σ3592 155 := by rw [e3593]; exact hc3559
  have hc3620 : (gN_ σ833 156) < gN_ σ3592 156 := by rw [e3593]; exact hc3560
  have hc3621 : (gN_ σ892 157) < gN_ σ3592 157 := by rw [e3593]; exact hc3561
  have hc3622 : (gN_ σ953 158) < gN_ σ3592 158 := by rw [e3593]; exact hc3562
  have hc3623 : (gN_ σ1016 163) < gN_ σ3592 163 := by rw [e3593]; exact hc3563
  have hc3624 : (gN_ σ1081 164) < gN_ σ3592 164 := by rw [e3593]; exact hc3564
  have hc3625 : (gN_ σ1148 165) < gN_ σ3592 165 := by rw [e3593]; exact hc3565
  have hc3626 : (gN_ σ1217 166) < gN_ σ3592 166 := by rw [e3593]; exact hc3566
  have hc3627 : (gN_ σ1288 171) < gN_ σ3592 171 := by rw [e3593]; exact hc3567
  have hc3628 : (gN_ σ1361 175) < gN_ σ3592 175 := by rw [e3593]; exact hc3568
  have hc3629 : (gN_ σ1436 176) < gN_ σ3592 176 := by rw [e3593]; exact hc3569
  have hc3630 : (gN_ σ1513 177) < gN_ σ3592 177 := by rw [e3593]; exact hc3570
  have hc3631 : (gN_ σ1592 178) < gN_ σ3592 178 := by rw [e3593]; exact hc3571
  have hc3632 : (gN_ σ1673 179) < gN_ σ3592 179 := by rw [e3593]; exact hc3572
  have hc3633 : (gN_ σ1756 182) < gN_ σ3592 182 := by rw [e3593]; exact hc3573
  have hc3634 : (gN_ σ1841 187) < gN_ σ3592 187 := by rw [e3593]; exact hc3574
  have hc3635 : (gN_ σ1928 188) < gN_ σ3592 188 := by rw [e3593]; exact hc3575
  have hc3636 : (gN_ σ2017 189) < gN_ σ3592 189 := by rw [e3593]; exact hc3576
  have hc3637 : (gN_ σ2108 190) < gN_ σ3592 190 := by rw [e3593]; exact hc3577
  have hc3638 : (gN_ σ2201 193) < gN_ σ3592 193 := by rw [e3593]; exact hc3578
  have hc3639 : (gN_ σ2296 194) < gN_ σ3592 194 := by rw [e3593]; exact hc3579
  have hc3640 : (gN_ σ2393 195) < gN_ σ3592 195 := by rw [e3593]; exact hc3580
  have hc3641 : (gN_ σ2492 196) < gN_ σ3592 196 := by rw [e3593]; exact hc3581
  have hc3642 : (gN_ σ2593 197) < gN_ σ3592 197 := by rw [e3593]; exact hc3582
  have hc3643 : (gN_ σ2696 198) < gN_ σ3592 198 := by rw [e3593]; exact hc3583
  have hc3644 : (gN_ σ2801 199) < gN_ σ3592 199 := by rw [e3593]; exact hc3584
  have hc3645 : (gN_ σ2908 200) < gN_ σ3592 200 := by rw [e3593]; exact hc3585
  have hc3646 : (gN_ σ3017 201) < gN_ σ3592 201 := by rw [e3593]; exact hc3586
  have hc3647 : (gN_ σ3128 202) < gN_ σ3592 202 := by rw [e3593]; exact hc3587
  have hc3648 : (gN_ σ3241 206) < gN_ σ3592 206 := by rw [e3593]; exact hc3588
  have hc3649 : (gN_ σ3356 207) < gN_ σ3592 207 := by rw [e3593]; exact hc3589
  have hc3650 : (gN_ σ3473 208) < gN_ σ3592 208 := by rw [e3593]; exact hc3590
  refine lv_aload_n hx hb dX10_init_457 rfl (lv_at hl 0 rfl) ?_
  refine lv_bipush (v := 60) hx hb dX10_init_458 (by decide) ?_
  have hp3651 : pr σ3592 109 0 := (pr_dy hc3594 rfl rfl)
  obtain ⟨σ3652, e3653, hs⟩ := ww_let hs
  obtain ⟨hs, hck⟩ := ww_ck1 hs
  have hrm1 := hcs.room (σ1 := σ3652) (a := 1) (b := 60) (by rw [e3653]; rfl) (by rw [e3653]; rfl) hck
  refine ww_newa (atype := .int) hx hb (hts _ q201) hW 209 0 60 (Or.inl rfl) sole_209 (Or.inr hgm) rfl rfl rfl (by decide) rfl (Nat.le_of_ble_eq_true rfl) hrm1.1 hrm1.2 dX10_init_460 (fun H L hx1 hW => ?_)
  rw [← e3653] at hx1 hW
  have hcs := hcs.more (σ1 := σ3652) (a := 1) (b := 60) (by rw [e3653]; rfl) (by rw [e3653]; rfl)
  have hrm := hrm1
  have hc3654 : 0 < gN_ σ3652 109 := Nat.lt_of_lt_of_le hc3594 (hx1.2.1 109)
  have hc3655 : (gN_ σ 112) < gN_ σ3652 112 := Nat.lt_of_lt_of_le hc3595 (hx1.2.1 112)
  have hc3656 : (gN_ σ17 113) < gN_ σ3652 113 := Nat.lt_of_lt_of_le hc3596 (hx1.2.1 113)
  have hc3657 : (gN_ σ28 114) < gN_ σ3652 114 := Nat.lt_of_lt_of_le hc3597 (hx1.2.1 114)
  have hc3658 : (gN_ σ41 115) < gN_ σ3652 115 := Nat.lt_of_lt_of_le hc3598 (hx1.2.1 115)
  have hc3659 : (gN_ σ56 116) < gN_ σ3652 116 := Nat.lt_of_lt_of_le hc3599 (hx1.2.1 116)
  have hc3660 : (gN_ σ73 117) < gN_ σ3652 117 := Nat.lt_of_lt_of_le hc3600 (hx1.2.1 117)
  have hc3661 : (gN_ σ92 118) < gN_ σ3652 118 := Nat.lt_of_lt_of_le hc3601 (hx1.2.1 118)
  have hc3662 : (gN_ σ113 119) < gN_ σ3652 119 := Nat.lt_of_lt_of_le hc3602 (hx1.2.1 119)
  have hc3663 : (gN_ σ136 127) < gN_ σ3652 127 := Nat.lt_of_lt_of_le hc3603 (hx1.2.1 127)
  have hc3664 : (gN_ σ161 128) < gN_ σ3652 128 := Nat.lt_of_lt_of_le hc3604 (hx1.2.1 128)
  have hc3665 : (gN_ σ188 129) < gN_ σ3652 129 := Nat.lt_of_lt_of_le hc3605 (hx1.2.1 129)
  have hc3666 : (gN_ σ217 130) < gN_ σ3652 130 := Nat.lt_of_lt_of_le hc3606 (hx1.2.1 130)
  have hc3667 : (gN_ σ248 131) < gN_ σ3652 131 := Nat.lt_of_lt_of_le hc3607 (hx1.2.1 131)
  have hc3668 : (gN_ σ281 137) < gN_ σ3652 137 := Nat.lt_of_lt_of_le hc3608 (hx1.2.1 137)
  have hc3669 : (gN_ σ316 138) < gN_ σ3652 138 := Nat.lt_of_lt_of_le hc3609 (hx1.2.1 138)
  have hc3670 : (gN_ σ353 145) < gN_ σ3652 145 := Nat.lt_of_lt_of_le hc3610 (hx1.2.1 145)
  have hc3671 : (gN_ σ392 146) < gN_ σ3652 146 := Nat.lt_of_lt_of_le hc3611 (hx1.2.1 146)
  have hc3672 : (gN_ σ433 147) < gN_ σ3652 147 := Nat.lt_of_lt_of_le hc3612 (hx1.2.1 147)
  have hc3673 : (gN_ σ476 148) < gN_ σ3652 148 := Nat.lt_of_lt_of_le hc3613 (hx1.2.1 148)
  have hc3674 : (gN_ σ521 150) < gN_ σ3652 150 := Nat.lt_of_lt_of_le hc3614 (hx1.2.1 150)
  have hc3675 : (gN_ σ568 151) < gN_ σ3652 151 := Nat.lt_of_lt_of_le hc3615 (hx1.2.1 151)
  have hc3676 : (gN_ σ617 152) < gN_ σ3652 152 := Nat.lt_of_lt_of_le hc3616 (hx1.2.1 152)
  have hc3677 : (gN_ σ668 153) < gN_ σ3652 153 := Nat.lt_of_lt_of_le hc3617 (hx1.2.1 153)
  have hc3678 : (gN_ σ721 154) < gN_ σ3652 154 := Nat.lt_of_lt_of_le hc3618 (hx1.2.1 154)
  have hc3679 : (gN_ σ776 155) < gN_ σ3652 155 := Nat.lt_of_lt_of_le hc3619 (hx1.2.1 155)
  have hc3680 : (gN_ σ833 156) < gN_ σ3652 156 := Nat.lt_of_lt_of_le hc3620 (hx1.2.1 156)
  have hc3681 : (gN_ σ892 157) < gN_ σ3652 157 := Nat.lt_of_lt_of_le hc3621 (hx1.2.1 157)
  have hc3682 : (gN_ σ953 158) < gN_ σ3652 158 := Nat.lt_of_lt_of_le hc3622 (hx1.2.1 158)
  have hc3683 : (gN_ σ1016 163) < gN_ σ3652 163 := Nat.lt_of_lt_of_le hc3623 (hx1.2.1 163)
  have hc3684 : (gN_ σ1081 164) < gN_ σ3652 164 := Nat.lt_of_lt_of_le hc3624 (hx1.2.1 164)
  have hc3685 : (gN_ σ1148 165) < gN_ σ3652 165 := Nat.lt_of_lt_of_le hc3625 (hx1.2.1 165)
  have hc3686 : (gN_ σ1217 166) < gN_ σ3652 166 := Nat.lt_of_lt_of_le hc3626 (hx1.2.1 166)
  have hc3687 : (gN_ σ1288 171) < gN_ σ3652 171 := Nat.lt_of_lt_of_le hc3627 (hx1.2.1 171)
  have hc3688 : (gN_ σ1361 175) < gN_ σ3652 175 := Nat.lt_of_lt_of_le hc3628 (hx1.2.1 175)
  have hc3689 : (gN_ σ1436 176) < gN_ σ3652 176 := Nat.lt_of_lt_of_le hc3629 (hx1.2.1 176)
  have hc3690 : (gN_ σ1513 177) < gN_ σ3652 177 := Nat.lt_of_lt_of_le hc3630 (hx1.2.1 177)
  have hc3691 : (gN_ σ1592 178) < gN_ σ3652 178 := Nat.lt_of_lt_of_le hc3631 (hx1.2.1 178)
  have hc3692 : (gN_ σ1673 179) < gN_ σ3652 179 := Nat.lt_of_lt_of_le hc3632 (hx1.2.1 179)
  have hc3693 : (gN_ σ1756 182) < gN_ σ3652 182 := Nat.lt_of_lt_of_le hc3633 (hx1.2.1 182)
  have hc3694 : (gN_ σ1841 187) < gN_ σ3652 187 := Nat.lt_of_lt_of_le hc3634 (hx1.2.1 187)
  have hc3695 : (gN_ σ1928 188) < gN_ σ3652 188 := Nat.lt_of_lt_of_le hc3635 (hx1.2.1 188)
  have hc3696 : (gN_ σ2017 189) < gN_ σ3652 189 := Nat.lt_of_lt_of_le hc3636 (hx1.2.1 189)
  have hc3697 : (gN_ σ2108 190) < gN_ σ3652 190 := Nat.lt_of_lt_of_le hc3637 (hx1.2.1 190)
  have hc3698 : (gN_ σ2201 193) < gN_ σ3652 193 := Nat.lt_of_lt_of_le hc3638 (hx1.2.1 193)
  have hc3699 : (gN_ σ2296 194) < gN_ σ3652 194 := Nat.lt_of_lt_of_le hc3639 (hx1.2.1 194)
  have hc3700 : (gN_ σ2393 195) < gN_ σ3652 195 := Nat.lt_of_lt_of_le hc3640 (hx1.2.1 195)
  have hc3701 : (gN_ σ2492 196) < gN_ σ3652 196 := Nat.lt_of_lt_of_le hc3641 (hx1.2.1 196)
  have hc3702 : (gN_ σ2593 197) < gN_ σ3652 197 := Nat.lt_of_lt_of_le hc3642 (hx1.2.1 197)
  have hc3703 : (gN_ σ2696 198) < gN_ σ3652 198 := Nat.lt_of_lt_of_le hc3643 (hx1.2.1 198)
  have hc3704 : (gN_ σ2801 199) < gN_ σ3652 199 := Nat.lt_of_lt_of_le hc3644 (hx1.2.1 199)
  have hc3705 : (gN_ σ2908 200) < gN_ σ3652 200 := Nat.lt_of_lt_of_le hc3645 (hx1.2.1 200)
  have hc3706 : (gN_ σ3017 201) < gN_ σ3652 201 := Nat.lt_of_lt_of_le hc3646 (hx1.2.1 201)
  have hc3707 : (gN_ σ3128 202) < gN_ σ3652 202 := Nat.lt_of_lt_of_le hc3647 (hx1.2.1 202)
  have hc3708 : (gN_ σ3241 206) < gN_ σ3652 206 := Nat.lt_of_lt_of_le hc3648 (hx1.2.1 206)
  have hc3709 : (gN_ σ3356 207) < gN_ σ3652 207 := Nat.lt_of_lt_of_le hc3649 (hx1.2.1 207)
  have hc3710 : (gN_ σ3473 208) < gN_ σ3652 208 := Nat.lt_of_lt_of_le hc3650 (hx1.2.1 208)
  have hc3711 : gN_ σ3592 209 < gN_ σ3652 209 := by rw [e3653]; exact nA_lt rfl
  rw [show ow_ 209 = 209 from rfl]
  have hl : lv_has ls 2 [(0, .ref (L 109 0))] := by rw [hx1.at hp3651 (by decide)]; exact hl
  refine ww_stk (st1 := [.ref (L 209 (gN_ σ3592 209)), .ref (L 109 0)]) (by rw [hx1.at hp3651 (by decide)]) ?_
  have hx0 := hx0.trans hx1
  obtain ⟨hc3712, hs⟩ := ww_chk hs
  have hpq : pr σ3652 209 (gN_ σ3592 209) := (pr_dy hc3711 rfl rfl)
  rw [hc3712] at hpq
  obtain ⟨σ3713, e3714, hs⟩ := ww_let hs
  refine ww_markF (d := (1, 209, 0)) hx hb hts hown (hnm.trans rfl) hW 109 0 99 0 (pr_dy hc3654 rfl rfl) (tgd_1 hpq) (obv_0 rfl) rfl (by decide) (Nat.le_of_ble_eq_true rfl) in_X10 tyX10_ok nmX10 rfl (Nat.le_of_ble_eq_true rfl) (hts _ q1792) (fun _ h => h) rfl rfl rfl (fun _ => rfl) (fun _ => rfl) (by rw [hc3712]; rfl) dX10_init_462 (fun H locs hW => ?_)
  have hW : wv g L σ3713 s H locs := by rw [e3714]; exact hW
  obtain ⟨hx0, hcs⟩ := lx_s (σ1 := σ3713) hx0 hcs (by rw [e3714]; exact (kp_M (by decide)))
  have hc3715 : 0 < gN_ σ3713 109 := by rw [e3714]; exact hc3654
  have hc3716 : (gN_ σ 112) < gN_ σ3713 112 := by rw [e3714]; exact hc3655
  have hc3717 : (gN_ σ17 113) < gN_ σ3713 113 := by rw [e3714]; exact hc3656
  have hc3718 : (gN_ σ28 114) < gN_ σ3713 114 := by rw [e3714]; exact hc3657
  have hc3719 : (gN_ σ41 115) < gN_ σ3713 115 := by rw [e3714]; exact hc3658
  have hc3720 : (gN_ σ56 116) < gN_ σ3713 116 := by rw [e3714]; exact hc3659
  have hc3721 : (gN_ σ73 117) < gN_ σ3713 117 := by rw [e3714]; exact hc3660
  have hc3722 : (gN_ σ92 118) < gN_ σ3713 118 := by rw [e3714]; exact hc3661
  have hc3723 : (gN_ σ113 119) < gN_ σ3713 119 := by rw [e3714]; exact hc3662
  have hc3724 : (gN_ σ136 127) < gN_ σ3713 127 := by rw [e3714]; exact hc3663
  have hc3725 : (gN_ σ161 128) < gN_ σ3713 128 := by rw [e3714]; exact hc3664
  have hc3726 : (gN_ σ188 129) < gN_ σ3713 129 := by rw [e3714]; exact hc3665
  have hc3727 : (gN_ σ217 130) < gN_ σ3713 130 := by rw [e3714]; exact hc3666
  have hc3728 : (gN_ σ248 131) < gN_ σ3713 131 := by rw [e3714]; exact hc3667
  have hc3729 : (gN_ σ281 137) < gN_ σ3713 137 := by rw [e3714]; exact hc3668
  have hc3730 : (gN_ σ316 138) < gN_ σ3713 138 := by rw [e3714]; exact hc3669
  have hc3731 : (gN_ σ353 145) < gN_ σ3713 145 := by rw [e3714]; exact hc3670
  have hc3732 : (gN_ σ392 146) < gN_ σ3713 146 := by rw [e3714]; exact hc3671
  have hc3733 : (gN_ σ433 147) < gN_ σ3713 147 := by rw [e3714]; exact hc3672
  have hc3734 : (gN_ σ476 148) < gN_ σ3713 148 := by rw [e3714]; exact hc3673
  have hc3735 : (gN_ σ521 150) < gN_ σ3713 150 := by rw [e3714]; exact hc3674
  have hc3736 : (gN_ σ568 151) < gN_ σ3713 151 := by rw [e3714]; exact hc3675
  have hc3737 : (gN_ σ617 152) < gN_ σ3713 152 := by rw [e3714]; exact hc3676
  have hc3738 : (gN_ σ668 153) < gN_ σ3713 153 := by rw [e3714]; exact hc3677
  have hc3739 : (gN_ σ721 154) < gN_ σ3713 154 := by rw [e3714]; exact hc3678
  have hc3740 : (gN_ σ776 155) < gN_ σ3713 155 := by rw [e3714]; exact hc3679
  have hc3741 : (gN_ σ833 156) < gN_ σ3713 156 := by rw [e3714]; exact hc3680
  have hc3742 : (gN_ σ892 157) < gN_ σ3713 157 := by rw [e3714]; exact hc3681
  have hc3743 : (gN_ σ953 158) < gN_ σ3713 158 := by rw [e3714]; exact hc3682
  have hc3744 : (gN_ σ1016 163) < gN_ σ3713 163 := by rw [e3714]; exact hc3683
  have hc3745 : (gN_ σ1081 164) < gN_ σ3713 164 := by rw [e3714]; exact hc3684
  have hc3746 : (gN_ σ1148 165) < gN_ σ3713 165 := by rw [e3714]; exact hc3685
  have hc3747 : (gN_ σ1217 166) < gN_ σ3713 166 := by rw [e3714]; exact hc3686
  have hc3748 : (gN_ σ1288 171) < gN_ σ3713 171 := by rw [e3714]; exact hc3687
  have hc3749 : (gN_ σ1361 175) < gN_ σ3713 175 := by rw [e3714]; exact hc3688
  have hc3750 : (gN_ σ1436 176) < gN_ σ3713 176 := by rw [e3714]; exact hc3689
  have hc3751 : (gN_ σ1513 177) < gN_ σ3713 177 := by rw [e3714]; exact hc3690
  have hc3752 : (gN_ σ1592 178) < gN_ σ3713 178 := by rw [e3714]; exact hc3691
  have hc3753 : (gN_ σ1673 179) < gN_ σ3713 179 := by rw [e3714]; exact hc3692
  have hc3754 : (gN_ σ1756 182) < gN_ σ3713 182 := by rw [e3714]; exact hc3693
  have hc3755 : (gN_ σ1841 187) < gN_ σ3713 187 := by rw [e3714]; exact hc3694
  have hc3756 : (gN_ σ1928 188) < gN_ σ3713 188 := by rw [e3714]; exact hc3695
  have hc3757 : (gN_ σ2017 189) < gN_ σ3713 189 := by rw [e3714]; exact hc3696
  have hc3758 : (gN_ σ2108 190) < gN_ σ3713 190 := by rw [e3714]; exact hc3697
  have hc3759 : (gN_ σ2201 193) < gN_ σ3713 193 := by rw [e3714]; exact hc3698
  have hc3760 : (gN_ σ2296 194) < gN_ σ3713 194 := by rw [e3714]; exact hc3699
  have hc3761 : (gN_ σ2393 195) < gN_ σ3713 195 := by rw [e3714]; exact hc3700
  have hc3762 : (gN_ σ2492 196) < gN_ σ3713 196 := by rw [e3714]; exact hc3701
  have hc3763 : (gN_ σ2593 197) < gN_ σ3713 197 := by rw [e3714]; exact hc3702
  have hc3764 : (gN_ σ2696 198) < gN_ σ3713 198 := by rw [e3714]; exact hc3703
  have hc3765 : (gN_ σ2801 199) < gN_ σ3713 199 := by rw [e3714]; exact hc3704
  have hc3766 : (gN_ σ2908 200) < gN_ σ3713 200 := by rw [e3714]; exact hc3705
  have hc3767 : (gN_ σ3017 201) < gN_ σ3713 201 := by rw [e3714]; exact hc3706
  have hc3768 : (gN_ σ3128 202) < gN_ σ3713 202 := by rw [e3714]; exact hc3707
  have hc3769 : (gN_ σ3241 206) < gN_ σ3713 206 := by rw [e3714]; exact hc3708
  have hc3770 : (gN_ σ3356 207) < gN_ σ3713 207 := by rw [e3714]; exact hc3709
  have hc3771 : (gN_ σ3473 208) < gN_ σ3713 208 := by rw [e3714]; exact hc3710
  have hc3772 : (gN_ σ3592 209) < gN_ σ3713 209 := by rw [e3714]; exact hc3711
  refine lv_aload_n hx hb dX10_init_465 rfl (lv_at hl 0 rfl) ?_
  refine lv_bipush (v := 60) hx hb dX10_init_466 (by decide) ?_
  have hp3773 : pr σ3713 109 0 := (pr_dy hc3715 rfl rfl)
  obtain ⟨σ3774, e3775, hs⟩ := ww_let hs
  obtain ⟨hs, hck⟩ := ww_ck1 hs
  have hrm1 := hcs.room (σ1 := σ3774) (a := 1) (b := 60) (by rw [e3775]; rfl) (by rw [e3775]; rfl) hck
  refine ww_newa (atype := .int) hx hb (hts _ q201) hW 210 0 60 (Or.inl rfl) sole_210 (Or.inr hgm) rfl rfl rfl (by decide) rfl (Nat.le_of_ble_eq_true rfl) hrm1.1 hrm1.2 dX10_init_468 (fun H L hx1 hW => ?_)
  rw [← e3775] at hx1 hW
  have hcs := hcs.more (σ1 := σ3774) (a := 1) (b := 60) (by rw [e3775]; rfl) (by rw [e3775]; rfl)
  have hrm := hrm1
  have hc3776 : 0 < gN_ σ3774 109 := Nat.lt_of_lt_of_le hc3715 (hx1.2.1 109)
  have hc3777 : (gN_ σ 112) < gN_ σ3774 112 := Nat.lt_of_lt_of_le hc3716 (hx1.2.1 112)
  have hc3778 : (gN_ σ17 113) < gN_ σ3774 113 := Nat.lt_of_lt_of_le hc3717 (hx1.2.1 113)
  have hc3779 : (gN_ σ28 114) < gN_ σ3774 114 := Nat.lt_of_lt_of_le hc3718 (hx1.2.1 114)
  have hc3780 : (gN_ σ41 115) < gN_ σ3774 115 := Nat.lt_of_lt_of_le hc3719 (hx1.2.1 115)
  have hc3781 : (gN_ σ56 116) < gN_ σ3774 116 := Nat.lt_of_lt_of_le hc3720 (hx1.2.1 116)
  have hc3782 : (gN_ σ73 117) < gN_ σ3774 117 := Nat.lt_of_lt_of_le hc3721 (hx1.2.1 117)
  have hc3783 : (gN_ σ92 118) < gN_ σ3774 118 := Nat.lt_of_lt_of_le hc3722 (hx1.2.1 118)
  have hc3784 : (gN_ σ113 119) < gN_ σ3774 119 := Nat.lt_of_lt_of_le hc3723 (hx1.2.1 119)
  have hc3785 : (gN_ σ136 127) < gN_ σ3774 127 := Nat.lt_of_lt_of_le hc3724 (hx1.2.1 127)
  have hc3786 : (gN_ σ161 128) < gN_ σ3774 128 := Nat.lt_of_lt_of_le hc3725 (hx1.2.1 128)
  have hc3787 : (gN_ σ188 129) < gN_ σ3774 129 := Nat.lt_of_lt_of_le hc3726 (hx1.2.1 129)
  have hc3788 : (gN_ σ217 130) < gN_ σ3774 130 := Nat.lt_of_lt_of_le hc3727 (hx1.2.1 130)
  have hc3789 : (gN_ σ248 131) < gN_ σ3774 131 := Nat.lt_of_lt_of_le hc3728 (hx1.2.1 131)
  have hc3790 : (gN_ σ281 137) < gN_ σ3774 137 := Nat.lt_of_lt_of_le hc3729 (hx1.2.1 137)
  have hc3791 : (gN_ σ316 138) < gN_ σ3774 138 := Nat.lt_of_lt_of_le hc3730 (hx1.2.1 138)
  have hc3792 : (gN_ σ353 145) < gN_ σ3774 145 := Nat.lt_of_lt_of_le hc3731 (hx1.2.1 145)
  have hc3793 : (gN_ σ392 146) < gN_ σ3774 146 := Nat.lt_of_lt_of_le hc3732 (hx1.2.1 146)
  have hc3794 : (gN_ σ433 147) < gN_ σ3774 147 := Nat.lt_of_lt_of_le hc3733 (hx1.2.1 147)
  have hc3795 : (gN_ σ476 148) < gN_ σ3774 148 := Nat.lt_of_lt_of_le hc3734 (hx1.2.1 148)
  have hc3796 : (gN_ σ521 150) < gN_ σ3774 150 := Nat.lt_of_lt_of_le hc3735 (hx1.2.1 150)
  have hc3797 : (gN_ σ568 151) < gN_ σ3774 151 := Nat.lt_of_lt_of_le hc3736 (hx1.2.1 151)
  have hc3798 : (gN_ σ617 152) < gN_ σ3774 152 := Nat.lt_of_lt_of_le hc3737 (hx1.2.1 152)
  have hc3799 : (gN_ σ668 153) < gN_ σ3774 153 := Nat.lt_of_lt_of_le hc3738 (hx1.2.1 153)
  have hc3800 : (gN_ σ721 154) < gN_ σ3774 154 := Nat.lt_of_lt_of_le hc3739 (hx1.2.1 154)
  have hc3801 : (gN_ σ776 155) < gN_ σ3774 155 := Nat.lt_of_lt_of_le hc3740 (hx1.2.1 155)
  have hc3802 : (gN_ σ833 156) < gN_ σ3774 156 := Nat.lt_of_lt_of_le hc3741 (hx1.2.1 156)
  have hc3803 : (gN_ σ892 157) < gN_ σ3774 157 := Nat.lt_of_lt_of_le hc3742 (hx1.2.1 157)
  have hc3804 : (gN_ σ953 158) < gN_ σ3774 158 := Nat.lt_of_lt_of_le hc3743 (hx1.2.1 158)
  have hc3805 : (gN_ σ1016 163) < gN_ σ3774 163 := Nat.lt_of_lt_of_le hc3744 (hx1.2.1 163)
  have hc3806 : (gN_ σ1081 164) < gN_ σ3774 164 := Nat.lt_of_lt_of_le hc3745 (hx1.2.1 164)
  have hc3807 : (gN_ σ1148 165) < gN_ σ3774 165 := Nat.lt_of_lt_of_le hc3746 (hx1.2.1 165)
  have hc3808 : (gN_ σ1217 166) < gN_ σ3774 166 := Nat.lt_of_lt_of_le hc3747 (hx1.2.1 166)
  have hc3809 : (gN_ σ1288 171) < gN_ σ3774 171 := Nat.lt_of_lt_of_le hc3748 (hx1.2.1 171)
  have hc3810 : (gN_ σ1361 175) < gN_ σ3774 175 := Nat.lt_of_lt_of_le hc3749 (hx1.2.1 175)
  have hc3811 : (gN_ σ1436 176) < gN_ σ3774 176 := Nat.lt_of_lt_of_le hc3750 (hx1.2.1 176)
  have hc3812 : (gN_ σ1513 177) < gN_ σ3774 177 := Nat.lt_of_lt_of_le hc3751 (hx1.2.1 177)
  have hc3813 : (gN_ σ1592 178) < gN_ σ3774 178 := Nat.lt_of_lt_of_le hc3752 (hx1.2.1 178)
  have hc3814 : (gN_ σ1673 179) < gN_ σ3774 179 := Nat.lt_of_lt_of_le hc3753 (hx1.2.1 179)
  have hc3815 : (gN_ σ1756 182) < gN_ σ3774 182 := Nat.lt_of_lt_of_le hc3754 (hx1.2.1 182)
  have hc3816 : (gN_ σ1841 187) < gN_ σ3774 187 := Nat.lt_of_lt_of_le hc3755 (hx1.2.1 187)
  have hc3817 : (gN_ σ1928 188) < gN_ σ3774 188 := Nat.lt_of_lt_of_le hc3756 (hx1.2.1 188)
  have hc3818 : (gN_ σ2017 189) < gN_ σ3774 189 := Nat.lt_of_lt_of_le hc3757 (hx1.2.1 189)
  have hc3819 : (gN_ σ2108 190) < gN_ σ3774 190 := Nat.lt_of_lt_of_le hc3758 (hx1.2.1 190)
  have hc3820 : (gN_ σ2201 193) < gN_ σ3774 193 := Nat.lt_of_lt_of_le hc3759 (hx1.2.1 193)
  have hc3821 : (gN_ σ2296 194) < gN_ σ3774 194 := Nat.lt_of_lt_of_le hc3760 (hx1.2.1 194)
  have hc3822 : (gN_ σ2393 195) < gN_ σ3774 195 := Nat.lt_of_lt_of_le hc3761 (hx1.2.1 195)
  have hc3823 : (gN_ σ2492 196) < gN_ σ3774 196 := Nat.lt_of_lt_of_le hc3762 (hx1.2.1 196)
  have hc3824 : (gN_ σ2593 197) < gN_ σ3774 197 := Nat.lt_of_lt_of_le hc3763 (hx1.2.1 197)
  have hc3825 : (gN_ σ2696 198) < gN_ σ3774 198 := Nat.lt_of_lt_of_le hc3764 (hx1.2.1 198)
  have hc3826 : (gN_ σ2801 199) < gN_ σ3774 199 := Nat.lt_of_lt_of_le hc3765 (hx1.2.1 199)
  have hc3827 : (gN_ σ2908 200) < gN_ σ3774 200 := Nat.lt_of_lt_of_le hc3766 (hx1.2.1 200)
  have hc3828 : (gN_ σ3017 201) < gN_ σ3774 201 := Nat.lt_of_lt_of_le hc3767 (hx1.2.1 201)
  have hc3829 : (gN_ σ3128 202) < gN_ σ3774 202 := Nat.lt_of_lt_of_le hc3768 (hx1.2.1 202)
  have hc3830 : (gN_ σ3241 206) < gN_ σ3774 206 := Nat.lt_of_lt_of_le hc3769 (hx1.2.1 206)
  have hc3831 : (gN_ σ3356 207) < gN_ σ3774 207 := Nat.lt_of_lt_of_le hc3770 (hx1.2.1 207)
  have hc3832 : (gN_ σ3473 208) < gN_ σ3774 208 := Nat.lt_of_lt_of_le hc3771 (hx1.2.1 208)
  have hc3833 : (gN_ σ3592 209) < gN_ σ3774 209 := Nat.lt_of_lt_of_le hc3772 (hx1.2.1 209)
  have hc3834 : gN_ σ3713 210 < gN_ σ3774 210 := by rw [e3775]; exact nA_lt rfl
  rw [show ow_ 210 = 210 from rfl]
  have hl : lv_has ls 2 [(0, .ref (L 109 0))] := by rw [hx1.at hp3773 (by decide)]; exact hl
  refine ww_stk (st1 := [.ref (L 210 (gN_ σ3713 210)), .ref (L 109 0)]) (by rw [hx1.at hp3773 (by decide)]) ?_
  have hx0 := hx0.trans hx1
  obtain ⟨hc3835, hs⟩ := ww_chk hs
  have hpq : pr σ3774 210 (gN_ σ3713 210) := (pr_dy hc3834 rfl rfl)
  rw [hc3835] at hpq
  obtain ⟨σ3836, e3837, hs⟩ := ww_let hs
  refine ww_markF (d := (1, 210, 0)) hx hb hts hown (hnm.trans rfl) hW 109 0 100 0 (pr_dy hc3776 rfl rfl) (tgd_1 hpq) (obv_0 rfl) rfl (by decide) (Nat.le_of_ble_eq_true rfl) in_X10 tyX10_ok nmX10 rfl (Nat.le_of_ble_eq_true rfl) (hts _ q1793) (fun _ h => h) rfl rfl rfl (fun _ => rfl) (fun _ => rfl) (by rw [hc3835]; rfl) dX10_init_470 (fun H locs hW => ?_)
  have hW : wv g L σ3836 s H locs := by rw [e3837]; exact hW
  obtain ⟨hx0, hcs⟩ := lx_s (σ1 := σ3836) hx0 hcs (by rw [e3837]; exact (kp_M (by decide)))
  have hc3838 : 0 < gN_ σ3836 109 := by rw [e3837]; exact hc3776
  have hc3839 : (gN_ σ 112) < gN_ σ3836 112 := by rw [e3837]; exact hc3777
  have hc3840 : (gN_ σ17 113) < gN_ σ3836 113 := by rw [e3837]; exact hc3778
  have hc3841 : (gN_ σ28 114) < gN_ σ3836 114 := by rw [e3837]; exact hc3779
  have hc3842 : (gN_ σ41 115) < gN_ σ3836 115 := by rw [e3837]; exact hc3780
  have hc3843 : (gN_ σ56 116) < gN_ σ3836 116 := by rw [e3837]; exact hc3781
  have hc3844 : (gN_ σ73 117) < gN_ σ3836 117 := by rw [e3837]; exact hc3782
  have hc3845 : (gN_ σ92 118) < gN_ σ3836 118 := by rw [e3837]; exact hc3783
  have hc3846 : (gN_ σ113 119) < gN_ σ3836 119 := by rw [e3837]; exact hc3784
  have hc3847 : (gN_ σ136 127) < gN_ σ3836 127 := by rw [e3837]; exact hc3785
  have hc3848 : (gN_ σ161 128) < gN_ σ3836 128 := by rw [e3837]; exact hc3786
  have hc3849 : (gN_ σ188 129) < gN_ σ3836 129 := by rw [e3837]; exact hc3787
  have hc3850 : (gN_ σ217 130) < gN_ σ3836 130 := by rw [e3837]; exact hc3788
  have hc3851 : (gN_ σ248 131) < gN_ σ3836 131 := by rw [e3837]; exact hc3789
  have hc3852 : (gN_ σ281 137) < gN_ σ3836 137 := by rw [e3837]; exact hc3790
  have hc3853 : (gN_ σ316 138) < gN_ σ3836 138 := by rw [e3837]; exact hc3791
  have hc3854 : (gN_ σ353 145) < gN_ σ3836 145 := by rw [e3837]; exact hc3792
  have hc3855 : (gN_ σ392 146) < gN_ σ3836 146 := by rw [e3837]; exact hc3793
  have hc3856 : (gN_ σ433 147) < gN_ σ3836 147 := by rw [e3837]; exact hc3794
  have hc3857 : (gN_ σ476 148) < gN_ σ3836 148 := by rw [e3837]; exact hc3795
  have hc3858 : (gN_ σ521 150) < gN_ σ3836 150 := by rw [e3837]; exact hc3796
  have hc3859 : (gN_ σ568 151) < gN_ σ3836 151 := by rw [e3837]; exact hc3797
  have hc3860 : (gN_ σ617 152) < gN_ σ3836 152 := by rw [e3837]; exact hc3798
  have hc3861 : (gN_ σ668 153) < gN_ σ3836 153 := by rw [e3837]; exact hc3799
  have hc3862 : (gN_ σ721 154) < gN_ σ3836 154 := by rw [e3837]; exact hc3800
  have hc3863 : (gN_ σ776 155) < gN_ σ3836 155 := by rw [e3837]; exact hc3801
  have hc3864 : (gN_ σ833 156) < gN_ σ3836 156 := by rw [e3837]; exact hc3802
  have hc3865 : (gN_ σ892 157) < gN_ σ3836 157 := by rw [e3837]; exact hc3803
  have hc3866 : (gN_ σ953 158) < gN_ σ3836 158 := by rw [e3837]; exact hc3804
  have hc3867 : (gN_ σ1016 163) < gN_ σ3836 163 := by rw [e3837]; exact hc3805
  have hc3868 : (gN_ σ1081 164) < gN_ σ3836 164 := by rw [e3837]; exact hc3806
  have hc3869 : (gN_ σ1148 165) < gN_ σ3836 165 := by rw [e3837]; exact hc3807
  have hc3870 : (gN_ σ1217 166) < gN_ σ3836 166 := by rw [e3837]; exact hc3808
  have hc3871 : (gN_ σ1288 171) < gN_ σ3836 171 := by rw [e3837]; exact hc3809
  have hc3872 : (gN_ σ1361 175) < gN_ σ3836 175 := by rw [e3837]; exact hc3810
  have hc3873 : (gN_ σ1436 176) < gN_ σ3836 176 := by rw [e3837]; exact hc3811
  have hc3874 : (gN_ σ1513 177) < gN_ σ3836 177 := by rw [e3837]; exact hc3812
  have hc3875 : (gN_ σ1592 178) < gN_ σ3836 178 := by rw [e3837]; exact hc3813
  have hc3876 : (gN_ σ1673 179) < gN_ σ3836 179 := by rw [e3837]; exact hc3814
  have hc3877 : (gN_ σ1756 182) < gN_ σ3836 182 := by rw [e3837]; exact hc3815
  have hc3878 : (gN_ σ1841 187) < gN_ σ3836 187 := by rw [e3837]; exact hc3816
  have hc3879 : (gN_ σ1928 188) < gN_ σ3836 188 := by rw [e3837]; exact hc3817
  have hc3880 : (gN_ σ2017 189) < gN_ σ3836 189 := by rw [e3837]; exact hc3818
  have hc3881 : (gN_ σ2108 190) < gN_ σ3836 190 := by rw [e3837]; exact hc3819
  have hc3882 : (gN_ σ2201 193) < gN_ σ3836 193 := by rw [e3837]; exact hc3820
  have hc3883 : (gN_ σ2296 194) < gN_ σ3836 194 := by rw [e3837]; exact hc3821
  have hc3884 : (gN_ σ2393 195) < gN_ σ3836 195 := by rw [e3837]; exact hc3822
  have hc3885 : (gN_ σ2492 196) < gN_ σ3836 196 := by rw [e3837]; exact hc3823
  have hc3886 : (gN_ σ2593 197) < gN_ σ3836 197 := by rw [e3837]; exact hc3824
  have hc3887 : (gN_ σ2696 198) < gN_ σ3836 198 := by rw [e3837]; exact hc3825
  have hc3888 : (gN_ σ2801 199) < gN_ σ3836 199 := by rw [e3837]; exact hc3826
  have hc3889 : (gN_ σ2908 200) < gN_ σ3836 200 := by rw [e3837]; exact hc3827
  have hc3890 : (gN_ σ3017 201) < gN_ σ3836 201 := by rw [e3837]; exact hc3828
  have hc3891 : (gN_ σ3128 202) < gN_ σ3836 202 := by rw [e3837]; exact hc3829
  have hc3892 : (gN_ σ3241 206) < gN_ σ3836 206 := by rw [e3837]; exact hc3830
  have hc3893 : (gN_ σ3356 207) < gN_ σ3836 207 := by rw [e3837]; exact hc3831
  have hc3894 : (gN_ σ3473 208) < gN_ σ3836 208 := by rw [e3837]; exact hc3832
  have hc3895 : (gN_ σ3592 209) < gN_ σ3836 209 := by rw [e3837]; exact hc3833
  have hc3896 : (gN_ σ3713 210) < gN_ σ3836 210 := by rw [e3837]; exact hc3834
  refine lv_aload_n hx hb dX10_init_473 rfl (lv_at hl 0 rfl) ?_
  refine lv_bipush (v := 60) hx hb dX10_init_474 (by decide) ?_
  have hp3897 : pr σ3836 109 0 := (pr_dy hc3838 rfl rfl)
  obtain ⟨σ3898, e3899, hs⟩ := ww_let hs
  obtain ⟨hs, hck⟩ := ww_ck1 hs
  have hrm1 := hcs.room (σ1 := σ3898) (a := 1) (b := 60) (by rw [e3899]; rfl) (by rw [e3899]; rfl) hck
  refine ww_newa (atype := .int) hx hb (hts _ q201) hW 211 0 60 (Or.inl rfl) sole_211 (Or.inr hgm) rfl rfl rfl (by decide) rfl (Nat.le_of_ble_eq_true rfl) hrm1.1 hrm1.2 dX10_init_476 (fun H L hx1 hW => ?_)
  rw [← e3899] at hx1 hW
  have hcs := hcs.more (σ1 := σ3898) (a := 1) (b := 60) (by rw [e3899]; rfl) (by rw [e3899]; rfl)
  have hrm := hrm1
  have hc3900 : 0 < gN_ σ3898 109 := Nat.lt_of_lt_of_le hc3838 (hx1.2.1 109)
  have hc3901 : (gN_ σ 112) < gN_ σ3898 112 := Nat.lt_of_lt_of_le hc3839 (hx1.2.1 112)
  have hc3902 : (gN_ σ17 113) < gN_ σ3898 113 := Nat.lt_of_lt_of_le hc3840 (hx1.2.1 113)
  have hc3903 : (gN_ σ28 114) < gN_ σ3898 114 := Nat.lt_of_lt_of_le hc3841 (hx1.2.1 114)
  have hc3904 : (gN_ σ41 115) < gN_ σ3898 115 := Nat.lt_of_lt_of_le hc3842 (hx1.2.1 115)
  have hc3905 : (gN_ σ56 116) < gN_ σ3898 116 := Nat.lt_of_lt_of_le hc3843 (hx1.2.1 116)
  have hc3906 : (gN_ σ73 117) < gN_ σ3898 117 := Nat.lt_of_lt_of_le hc3844 (hx1.2.1 117)
  have hc3907 : (gN_ σ92 118) < gN_ σ3898 118 := Nat.lt_of_lt_of_le hc3845 (hx1.2.1 118)
  have hc3908 : (gN_ σ113 119) < gN_ σ3898 119 := Nat.lt_of_lt_of_le hc3846 (hx1.2.1 119)
  have hc3909 : (gN_ σ136 127) < gN_ σ3898 127 := Nat.lt_of_lt_of_le hc3847 (hx1.2.1 127)
  have hc3910 : (gN_ σ161 128) < gN_ σ3898 128 := Nat.lt_of_lt_of_le hc3848 (hx1.2.1 128)
  have hc3911 : (gN_ σ188 129) < gN_ σ3898 129 := Nat.lt_of_lt_of_le hc3849 (hx1.2.1 129)
  have hc3912 : (gN_ σ217 130) < gN_ σ3898 130 := Nat.lt_of_lt_of_le hc3850 (hx1.2.1 130)
  have hc3913 : (gN_ σ248 131) < gN_ σ3898 131 := Nat.lt_of_lt_of_le hc3851 (hx1.2.1 131)
  have hc3914 : (gN_ σ281 137) < gN_ σ3898 137 := Nat.lt_of_lt_of_le hc3852 (hx1.2.1 137)
  have hc3915 : (gN_ σ316 138) < gN_ σ3898 138 := Nat.lt_of_lt_of_le hc3853 (hx1.2.1 138)
  have hc3916 : (gN_ σ353 145) < gN_ σ3898 145 := Nat.lt_of_lt_of_le hc3854 (hx1.2.1 145)
  have hc3917 : (gN_ σ392 146) < gN_ σ3898 146 := Nat.lt_of_lt_of_le hc3855 (hx1.2.1 146)
  have hc3918 : (gN_ σ433 147) < gN_ σ3898 147 := Nat.lt_of_lt_of_le hc3856 (hx1.2.1 147)
  have hc3919 : (gN_ σ476 148) < gN_ σ3898 148 := Nat.lt_of_lt_of_le hc3857 (hx1.2.1 148)
  have hc3920 : (gN_ σ521 150) < gN_ σ3898 150 := Nat.lt_of_lt_of_le hc3858 (hx1.2.1 150)
  have hc3921 : (gN_ σ568 151) < gN_ σ3898 151 := Nat.lt_of_lt_of_le hc3859 (hx1.2.1 151)
  have hc3922 : (gN_ σ617 152) < gN_ σ3898 152 := Nat.lt_of_lt_of_le hc3860 (hx1.2.1 152)
  have hc3923 : (gN_ σ668 153) < gN_ σ3898 153 := Nat.lt_of_lt_of_le hc3861 (hx1.2.1 153)
  have hc3924 : (gN_ σ721 154) < gN_ σ3898 154 := Nat.lt_of_lt_of_le hc3862 (hx1.2.1 154)
  have hc3925 : (gN_ σ776 155) < gN_ σ3898 155 := Nat.lt_of_lt_of_le hc3863 (hx1.2.1 155)
  have hc3926 : (gN_ σ833 156) < gN_ σ3898 156 := Nat.lt_of_lt_of_le hc3864 (hx1.2.1 156)
  have hc3927 : (gN_ σ892 157) < gN_ σ3898 157 := Nat.lt_of_lt_of_le hc3865 (hx1.2.1 157)
  have hc3928 : (gN_ σ953 158) < gN_ σ3898 158 := Nat.lt_of_lt_of_le hc3866 (hx1.2.1 158)
  have hc3929 : (gN_ σ1016 163) < gN_ σ3898 163 := Nat.lt_of_lt_of_le hc3867 (hx1.2.1 163)
  have hc3930 : (gN_ σ1081 164) < gN_ σ3898 164 := Nat.lt_of_lt_of_le hc3868 (hx1.2.1 164)
  have hc3931 : (gN_ σ1148 165) < gN_ σ3898 165 := Nat.lt_of_lt_of_le hc3869 (hx1.2.1 165)
  have hc3932 : (gN_ σ1217 166) < gN_ σ3898 166 := Nat.lt_of_lt_of_le hc3870 (hx1.2.1 166)
  have hc3933 : (gN_ σ1288 171) < gN_ σ3898 171 := Nat.lt_of_lt_of_le hc3871 (hx1.2.1 171)
  have hc3934 : (gN_ σ1361 175) < gN_ σ3898 175 := Nat.lt_of_lt_of_le hc3872 (hx1.2.1 175)
  have hc3935 : (gN_ σ1436 176) < gN_ σ3898 176 := Nat.lt_of_lt_of_le hc3873 (hx1.2.1 176)
  have hc3936 : (gN_ σ1513 177) < gN_ σ3898 177 := Nat.lt_of_lt_of_le hc3874 (hx1.2.1 177)
  have hc3937 : (gN_ σ1592 178) < gN_ σ3898 178 := Nat.lt_of_lt_of_le hc3875 (hx1.2.1 178)
  have hc3938 : (gN_ σ1673 179) < gN_ σ3898 179 := Nat.lt_of_lt_of_le hc3876 (hx1.2.1 179)
  have hc3939 : (gN_ σ1756 182) < gN_ σ3898 182 := Nat.lt_of_lt_of_le hc3877 (hx1.2.1 182)
  have hc3940 : (gN_ σ1841 187) < gN_ σ3898 187 := Nat.lt_of_lt_of_le hc3878 (hx1.2.1 187)
  have hc3941 : (gN_ σ1928 188) < gN_ σ3898 188 := Nat.lt_of_lt_of_le hc3879 (hx1.2.1 188)
  have hc3942 : (gN_ σ2017 189) < gN_ σ3898 189 := Nat.lt_of_lt_of_le hc3880 (hx1.2.1 189)
  have hc3943 : (gN_ σ2108 190) < gN_ σ3898 190 := Nat.lt_of_lt_of_le hc3881 (hx1.2.1 190)
  have hc3944 : (gN_ σ2201 193) < gN_ σ3898 193 := Nat.lt_of_lt_of_le hc3882 (hx1.2.1 193)
  have hc3945 : (gN_ σ2296 194) < gN_ σ3898 194 := Nat.lt_of_lt_of_le hc3883 (hx1.2.1 194)
  have hc3946 : (gN_ σ2393 195) < gN_ σ3898 195 := Nat.lt_of_lt_of_le hc3884 (hx1.2.1 195)
  have hc3947 : (gN_ σ2492 196) < gN_ σ3898 196 := Nat.lt_of_lt_of_le hc3885 (hx1.2.1 196)
  have hc3948 : (gN_ σ2593 197) < gN_ σ3898 197 := Nat.lt_of_lt_of_le hc3886 (hx1.2.1 197)
  have hc3949 : (gN_ σ2696 198) < gN_ σ3898 198 := Nat.lt_of_lt_of_le hc3887 (hx1.2.1 198)
  have hc3950 : (gN_ σ2801 199) < gN_ σ3898 199 := Nat.lt_of_lt_of_le hc3888 (hx1.2.1 199)
  have hc3951 : (gN_ σ2908 200) < gN_ σ3898 200 := Nat.lt_of_lt_of_le hc3889 (hx1.2.1 200)
  have hc3952 : (gN_ σ3017 201) < gN_ σ3898 201 := Nat.lt_of_lt_of_le hc3890 (hx1.2.1 201)
  have hc3953 : (gN_ σ3128 202) < gN_ σ3898 202 := Nat.lt_of_lt_of_le hc3891 (hx1.2.1 202)
  have hc3954 : (gN_ σ3241 206) < gN_ σ3898 206 := Nat.lt_of_lt_of_le hc3892 (hx1.2.1 206)
  have hc3955 : (gN_ σ3356 207) < gN_ σ3898 207 := Nat.lt_of_lt_of_le hc3893 (hx1.2.1 207)
  have hc3956 : (gN_ σ3473 208) < gN_ σ3898 208 := Nat.lt_of_lt_of_le hc3894 (hx1.2.1 208)
  have hc3957 : (gN_ σ3592 209) < gN_ σ3898 209 := Nat.lt_of_lt_of_le hc3895 (hx1.2.1 209)
  have hc3958 : (gN_ σ3713 210) < gN_ σ3898 210 := Nat.lt_of_lt_of_le hc3896 (hx1.2.1 210)
  have hc3959 : gN_ σ3836 211 < gN_ σ3898 211 := by rw [e3899]; exact nA_lt rfl
  rw [show ow_ 211 = 211 from rfl]
  have hl : lv_has ls 2 [(0, .ref (L 109 0))] := by rw [hx1.at hp3897 (by decide)]; exact hl
  refine ww_stk (st1 := [.ref (L 211 (gN_ σ3836 211)), .ref (L 109 0)]) (by rw [hx1.at hp3897 (by decide)]) ?_
  have hx0 := hx0.trans hx1
  obtain ⟨hc3960, hs⟩ := ww_chk hs
  have hpq : pr σ3898 211 (gN_ σ3836 211) := (pr_dy hc3959 rfl rfl)
  rw [hc3960] at hpq
  obtain ⟨σ3961, e3962, hs⟩ := ww_let hs
  refine ww_markF (d := (1, 211, 0)) hx hb hts hown (hnm.trans rfl) hW 109 0 101 0 (pr_dy hc3900 rfl rfl) (tgd_1 hpq) (obv_0 rfl) rfl (by decide) (Nat.le_of_ble_eq_true rfl) in_X10 tyX10_ok nmX10 rfl (Nat.le_of_ble_eq_true rfl) (hts _ q1794) (fun _ h => h) rfl rfl rfl (fun _ => rfl) (fun _ => rfl) (by rw [hc3960]; rfl) dX10_init_478 (fun H locs hW => ?_)
  have hW : wv g L σ3961 s H locs := by rw [e3962]; exact hW
  obtain ⟨hx0, hcs⟩ := lx_s (σ1 := σ3961) hx0 hcs (by rw [e3962]; exact (kp_M (by decide)))
  have hc3963 : 0 < gN_ σ3961 109 := by rw [e3962]; exact hc3900
  have hc3964 : (gN_ σ 112) < gN_ σ3961 112 := by rw [e3962]; exact hc3901
  have hc3965 : (gN_ σ17 113) < gN_ σ3961 113 := by rw [e3962]; exact hc3902
  have hc3966 : (gN_ σ28 114) < gN_ σ3961 114 := by rw [e3962]; exact hc3903
  have hc3967 : (gN_ σ41 115) < gN_ σ3961 115 := by rw [e3962]; exact hc3904
  have hc3968 : (gN_ σ56 116) < gN_ σ3961 116 := by rw [e3962]; exact hc3905
  have hc3969 : (gN_ σ73 117) < gN_ σ3961 117 := by rw [e3962]; exact hc3906
  have hc3970 : (gN_ σ92 118) < gN_ σ3961 118 := by rw [e3962]; exact hc3907
  have hc3971 : (gN_ σ113 119) < gN_ σ3961 119 := by rw [e3962]; exact hc3908
  have hc3972 : (gN_ σ136 127) < gN_ σ3961 127 := by rw [e3962]; exact hc3909
  have hc3973 : (gN_ σ161 128) < gN_ σ3961 128 := by rw [e3962]; exact hc3910
  have hc3974 : (gN_ σ188 129) < gN_ σ3961 129 := by rw [e3962]; exact hc3911
  have hc3975 : (gN_ σ217 130) < gN_ σ3961 130 := by rw [e3962]; exact hc3912
  have hc3976 : (gN_ σ248 131) < gN_ σ3961 131 := by rw [e3962]; exact hc3913
  have hc3977 : (gN_ σ281 137) < gN_ σ3961 137 := by rw [e3962]; exact hc3914
  have hc3978 : (gN_ σ316 138) < gN_ σ3961 138 := by rw [e3962]; exact hc3915
  have hc3979 : (gN_ σ353 145) < gN_ σ3961 145 := by rw [e3962]; exact hc3916
  have hc3980 : (gN_ σ392 146) < gN_ σ3961 146 := by rw [e3962]; exact hc3917
  have hc3981 : (gN_ σ433 147) < gN_ σ3961 147 := by rw [e3962]; exact hc3918
  have hc3982 : (gN_ σ476 148) < gN_ σ3961 148 := by rw [e3962]; exact hc3919
  have hc3983 : (gN_ σ521 150) < gN_ σ3961 150 := by rw [e3962]; exact hc3920
  have hc3984 : (gN_ σ568 151) < gN_ σ3961 151 := by rw [e3962]; exact hc3921
  have hc3985 : (gN_ σ617 152) < gN_ σ3961 152 := by rw [e3962]; exact hc3922
  have hc3986 : (gN_ σ668 153) < gN_ σ3961 153 := by rw [e3962]; exact hc3923
  have hc3987 : (gN_ σ721 154) < gN_ σ3961 154 := by rw [e3962]; exact hc3924
  have hc3988 : (gN_ σ776 155) < gN_ σ3961 155 := by rw [e3962]; exact hc3925
  have hc3989 : (gN_ σ833 156) < gN_ σ3961 156 := by rw [e3962]; exact hc3926
  have hc3990 : (gN_ σ892 157) < gN_ σ3961 157 := by rw [e3962]; exact hc3927
  have hc3991 : (gN_ σ953 158) < gN_ σ3961 158 := by rw [e3962]; exact hc3928
  have hc3992 : (gN_ σ1016 163) < gN_ σ3961 163 := by rw [e3962]; exact hc3929
  have hc3993 : (gN_ σ1081 164) < gN_ σ3961 164 := by rw [e3962]; exact hc3930
  have hc3994 : (gN_ σ1148 165) < gN_ σ3961 165 := by rw [e3962]; exact hc3931
  have hc3995 : (gN_ σ1217 166) < gN_ σ3961 166 := by rw [e3962]; exact hc3932
  have hc3996 : (gN_ σ1288 171) < gN_ σ3961 171 := by rw [e3962]; exact hc3933
  have hc3997 : (gN_ σ1361 175) < gN_ σ3961 175 := by rw [e3962]; exact hc3934
  have hc3998 : (gN_ σ1436 176) < gN_ σ3961 176 := by rw [e3962]; exact hc3935
  have hc3999 : (gN_ σ1513 177) < gN_ σ3961 177 := by rw [e3962]; exact hc3936
  have hc4000 : (gN_ σ1592 178) < gN_ σ3961 178 := by rw [e3962]; exact hc3937
  have hc4001 : (gN_ σ1673 179) < gN_ σ3961 179 := by rw [e3962]; exact hc3938
  have hc4002 : (gN_ σ1756 182) < gN_ σ3961 182 := by rw [e3962]; exact hc3939
  have hc4003 : (gN_ σ1841 187) < gN_ σ3961 187 := by rw [e3962]; exact hc3940
  have hc4004 : (gN_ σ1928 188) < gN_ σ3961 188 := by rw [e3962]; exact hc3941
  have hc4005 : (gN_ σ2017 189) < gN_ σ3961 189 := by rw [e3962]; exact hc3942
  have hc4006 : (gN_ σ2108 190) < gN_ σ3961 190 := by rw [e3962]; exact hc3943
  have hc4007 : (gN_ σ2201 193) < gN_ σ3961 193 := by rw [e3962]; exact hc3944
  have hc4008 : (gN_ σ2296 194) < gN_ σ3961 194 := by rw [e3962]; exact hc3945
  have hc4009 : (gN_ σ2393 195) < gN_ σ3961 195 := by rw [e3962]; exact hc3946
  have hc4010 : (gN_ σ2492 196) < gN_ σ3961 196 := by rw [e3962]; exact hc3947
  have hc4011 : (gN_ σ2593 197) < gN_ σ3961 197 := by rw [e3962]; exact hc3948
  have hc4012 : (gN_ σ2696 198) < gN_ σ3961 198 := by rw [e3962]; exact hc3949
  have hc4013 : (gN_ σ2801 199) < gN_ σ3961 199 := by rw [e3962]; exact hc3950
  have hc4014 : (gN_ σ2908 200) < gN_ σ3961 200 := by rw [e3962]; exact hc3951
  have hc4015 : (gN_ σ3017 201) < gN_ σ3961 201 := by rw [e3962]; exact hc3952
  have hc4016 : (gN_ σ3128 202) < gN_ σ3961 202 := by rw [e3962]; exact hc3953
  have hc4017 : (gN_ σ3241 206) < gN_ σ3961 206 := by rw [e3962]; exact hc3954
  have hc4018 : (gN_ σ3356 207) < gN_ σ3961 207 := by rw [e3962]; exact hc3955
  have hc4019 : (gN_ σ3473 208) < gN_ σ3961 208 := by rw [e3962]; exact hc3956
  have hc4020 : (gN_ σ3592 209) < gN_ σ3961 209 := by rw [e3962]; exact hc3957
  have hc4021 : (gN_ σ3713 210) < gN_ σ3961 210 := by rw [e3962]; exact hc3958
  have hc4022 : (gN_ σ3836 211) < gN_ σ3961 211 := by rw [e3962]; exact hc3959
  refine lv_aload_n hx hb dX10_init_481 rfl (lv_at hl 0 rfl) ?_
  refine lv_bipush (v := 60) hx hb dX10_init_482 (by decide) ?_
  have hp4023 : pr σ3961 109 0 := (pr_dy hc3963 rfl rfl)
  obtain ⟨σ4024, e4025, hs⟩ := ww_let hs
  obtain ⟨hs, hck⟩ := ww_ck1 hs
  have hrm1 := hcs.room (σ1 := σ4024) (a := 1) (b := 60) (by rw [e4025]; rfl) (by rw [e4025]; rfl) hck
  refine ww_newa (atype := .int) hx hb (hts _ q201) hW 212 0 60 (Or.inl rfl) sole_212 (Or.inr hgm) rfl rfl rfl (by decide) rfl (Nat.le_of_ble_eq_true rfl) hrm1.1 hrm1.2 dX10_init_484 (fun H L hx1 hW => ?_)
  rw [← e4025] at hx1 hW
  have hcs := hcs.more (σ1 := σ4024) (a := 1) (b := 60) (by rw [e4025]; rfl) (by rw [e4025]; rfl)
  have hrm := hrm1
  have hc4026 : 0 < gN_ σ4024 109 := Nat.lt_of_lt_of_le hc3963 (hx1.2.1 109)
  have hc4027 : (gN_ σ 112) < gN_ σ4024 112 := Nat.lt_of_lt_of_le hc3964 (hx1.2.1 112)
  have hc4028 : (gN_ σ17 113) < gN_ σ4024 113 := Nat.lt_of_lt_of_le hc3965 (hx1.2.1 113)
  have hc4029 : (gN_ σ28 114) < gN_ σ4024 114 := Nat.lt_of_lt_of_le hc3966 (hx1.2.1 114)
  have hc4030 : (gN_ σ41 115) < gN_ σ4024 115 := Nat.lt_of_lt_of_le hc3967 (hx1.2.1 115)
  have hc4031 : (gN_ σ56 116) < gN_ σ4024 116 := Nat.lt_of_lt_of_le hc3968 (hx1.2.1 116)
  have hc4032 : (gN_ σ73 117) < gN_ σ4024 117 := Nat.lt_of_lt_of_le hc3969 (hx1.2.1 117)
  have hc4033 : (gN_ σ92 118) < gN_ σ4024 118 := Nat.lt_of_lt_of_le hc3970 (hx1.2.1 118)
  have hc4034 : (gN_ σ113 119) < gN_ σ4024 119 := Nat.lt_of_lt_of_le hc3971 (hx1.2.1 119)
  have hc4035 : (gN_ σ136 127) < gN_ σ4024 127 := Nat.lt_of_lt_of_le hc3972 (hx1.2.1 127)
  have hc4036 : (gN_ σ161 128) < gN_ σ4024 128 := Nat.lt_of_lt_of_le hc3973 (hx1.2.1 128)
  have hc4037 : (gN_ σ188 129) < gN_ σ4024 129 := Nat.lt_of_lt_of_le hc3974 (hx1.2.1 129)
  have hc4038 : (gN_ σ217 130) < gN_ σ4024 130 := Nat.lt_of_lt_of_le hc3975 (hx1.2.1 130)
  have hc4039 : (gN_ σ248 131) < gN_ σ4024 131 := Nat.lt_of_lt_of_le hc3976 (hx1.2.1 131)
  have hc4040 : (gN_ σ281 137) < gN_ σ4024 137 := Nat.lt_of_lt_of_le hc3977 (hx1.2.1 137)
  have hc4041 : (gN_ σ316 138) < gN_ σ4024 138 := Nat.lt_of_lt_of_le hc3978 (hx1.2.1 138)
  have hc4042 : (gN_ σ353 145) < gN_ σ4024 145 := Nat.lt_of_lt_of_le hc3979 (hx1.2.1 145)
  have hc4043 : (gN_ σ392 146) < gN_ σ4024 146 := Nat.lt_of_lt_of_le hc3980 (hx1.2.1 146)
  have hc4044 : (gN_ σ433 147) < gN_ σ4024 147 := Nat.lt_of_lt_of_le hc3981 (hx1.2.1 147)
  have hc4045 : (gN_ σ476 148) < gN_ σ4024 148 := Nat.lt_of_lt_of_le hc3982 (hx1.2.1 148)
  have hc4046 : (gN_ σ521 150) < gN_ σ4024 150 := Nat.lt_of_lt_of_le hc3983 (hx1.2.1 150)
  have hc4047 : (gN_ σ568 151) < gN_ σ4024 151 := Nat.lt_of_lt_of_le hc3984 (hx1.2.1 151)
  have hc4048 : (gN_ σ617 152) < gN_ σ4024 152 := Nat.lt_of_lt_of_le hc3985 (hx1.2.1 152)
  have hc4049 : (gN_ σ668 153) < gN_ σ4024 153 := Nat.lt_of_lt_of_le hc3986 (hx1.2.1 153)
  have hc4050 : (gN_ σ721 154) < gN_ σ4024 154 := Nat.lt_of_lt_of_le hc3987 (hx1.2.1 154)
  have hc4051 : (gN_ σ776 155) < gN_ σ4024 155 := Nat.lt_of_lt_of_le hc3988 (hx1.2.1 155)
  have hc4052 : (gN_ σ833 156) < gN_ σ4024 156 := Nat.lt_of_lt_of_le hc3989 (hx1.2.1 156)
  have hc4053 : (gN_ σ892 157) < gN_ σ4024 157 := Nat.lt_of_lt_of_le hc3990 (hx1.2.1 157)
  have hc4054 : (gN_ σ953 158) < gN_ σ4024 158 := Nat.lt_of_lt_of_le hc3991 (hx1.2.1 158)
  have hc4055 : (gN_ σ1016 163) < gN_ σ4024 163 := Nat.lt_of_lt_of_le hc3992 (hx1.2.1 163)
  have hc4056 : (gN_ σ1081 164) < gN_ σ4024 164 := Nat.lt_of_lt_of_le hc3993 (hx1.2.1 164)
  have hc4057 : (gN_ σ1148 165) < gN_ σ4024 165 := Nat.lt_of_lt_of_le hc3994 (hx1.2.1 165)
  have hc4058 : (gN_ σ1217 166) < gN_ σ4024 166 := Nat.lt_of_lt_of_le hc3995 (hx1.2.1 166)
  have hc4059 : (gN_ σ1288 171) < gN_ σ4024 171 := Nat.lt_of_lt_of_le hc3996 (hx1.2.1 171)
  have hc4060 : (gN_ σ1361 175) < gN_ σ4024 175 := Nat.lt_of_lt_of_le hc3997 (hx1.2.1 175)
  have hc4061 : (gN_ σ1436 176) < gN_ σ4024 176 := Nat.lt_of_lt_of_le hc3998 (hx1.2.1 176)
  have hc4062 : (gN_ σ1513 177) < gN_ σ4024 177 := Nat.lt_of_lt_of_le hc3999 (hx1.2.1 177)
  have hc4063 : (gN_ σ1592 178) < gN_ σ4024 178 := Nat.lt_of_lt_of_le hc4000 (hx1.2.1 178)
  have hc4064 : (gN_ σ1673 179) < gN_ σ4024 179 := Nat.lt_of_lt_of_le hc4001 (hx1.2.1 179)
  have hc4065 : (gN_ σ1756 182) < gN_ σ4024 182 := Nat.lt_of_lt_of_le hc4002 (hx1.2.1 182)
  have hc4066 : (gN_ σ1841 187) < gN_ σ4024 187 := Nat.lt_of_lt_of_le hc4003 (hx1.2.1 187)
  have hc4067 : (gN_ σ1928 188) < gN_ σ4024 188 := Nat.lt_of_lt_of_le hc4004 (hx1.2.1 188)
  have hc4068 : (gN_ σ2017 189) < gN_ σ4024 189 := Nat.lt_of_lt_of_le hc4005 (hx1.2.1 189)
  have hc4069 : (gN_ σ2108 190) < gN_ σ4024 190 := Nat.lt_of_lt_of_le hc4006 (hx1.2.1 190)
  have hc4070 : (gN_ σ2201 193) < gN_ σ4024 193 := Nat.lt_of_lt_of_le hc4007 (hx1.2.1 193)
  have hc4071 : (gN_ σ2296 194) < gN_ σ4024 194 := Nat.lt_of_lt_of_le hc4008 (hx1.2.1 194)
  have hc4072 : (gN_ σ2393 195) < gN_ σ4024 195 := Nat.lt_of_lt_of_le hc4009 (hx1.2.1 195)
  have hc4073 : (gN_ σ2492 196) < gN_ σ4024 196 := Nat.lt_of_lt_of_le hc4010 (hx1.2.1 196)
  have hc4074 : (gN_ σ2593 197) < gN_ σ4024 197 := Nat.lt_of_lt_of_le hc4011 (hx1.2.1 197)
  have hc4075 : (gN_ σ2696 198) < gN_ σ4024 198 := Nat.lt_of_lt_of_le hc4012 (hx1.2.1 198)
  have hc4076 : (gN_ σ2801 199) < gN_ σ4024 199 := Nat.lt_of_lt_of_le hc4013 (hx1.2.1 199)
  have hc4077 : (gN_ σ2908 200) < gN_ σ4024 200 := Nat.lt_of_lt_of_le hc4014 (hx1.2.1 200)
  have hc4078 : (gN_ σ3017 201) < gN_ σ4024 201 := Nat.lt_of_lt_of_le hc4015 (hx1.2.1 201)
  have hc4079 : (gN_ σ3128 202) < gN_ σ4024 202 := Nat.lt_of_lt_of_le hc4016 (hx1.2.1 202)
  have hc4080 : (gN_ σ3241 206) < gN_ σ4024 206 := Nat.lt_of_lt_of_le hc4017 (hx1.2.1 206)
  have hc4081 : (gN_ σ3356 207) < gN_ σ4024 207 := Nat.lt_of_lt_of_le hc4018 (hx1.2.1 207)
  have hc4082 : (gN_ σ3473 208) < gN_ σ4024 208 := Nat.lt_of_lt_of_le hc4019 (hx1.2.1 208)
  have hc4083 : (gN_ σ3592 209) < gN_ σ4024 209 := Nat.lt_of_lt_of_le hc4020 (hx1.2.1 209)
  have hc4084 : (gN_ σ3713 210) < gN_ σ4024 210 := Nat.lt_of_lt_of_le hc4021 (hx1.2.1 210)
  have hc4085 : (gN_ σ3836 211) < gN_ σ4024 211 := Nat.lt_of_lt_of_le hc4022 (hx1.2.1 211)
  have hc4086 : gN_ σ3961 212 < gN_ σ4024 212 := by rw [e4025]; exact nA_lt rfl
  rw [show ow_ 212 = 212 from rfl]
  have hl : lv_has ls 2 [(0, .ref (L 109 0))] := by rw [hx1.at hp4023 (by decide)]; exact hl
  refine ww_stk (st1 := [.ref (L 212 (gN_ σ3961 212)), .ref (L 109 0)]) (by rw [hx1.at hp4023 (by decide)]) ?_
  have hx0 := hx0.trans hx1
  obtain ⟨hc4087, hs⟩ := ww_chk hs
  have hpq : pr σ4024 212 (gN_ σ3961 212) := (pr_dy hc4086 rfl rfl)
  rw [hc4087] at hpq
  obtain ⟨σ4088, e4089, hs⟩ := ww_let hs
  refine ww_markF (d := (1, 212, 0)) hx hb hts hown (hnm.trans rfl) hW 109 0 102 0 (pr_dy hc4026 rfl rfl) (tgd_1 hpq) (obv_0 rfl) rfl (by decide) (Nat.le_of_ble_eq_true rfl) in_X10 tyX10_ok nmX10 rfl (Nat.le_of_ble_eq_true rfl) (hts _ q1795) (fun _ h => h) rfl rfl rfl (fun _ => rfl) (fun _ => rfl) (by rw [hc4087]; rfl) dX10_init_486 (fun H locs hW => ?_)
  have hW : wv g L σ4088 s H locs := by rw [e4089]; exact hW
  obtain ⟨hx0, hcs⟩ := lx_s (σ1 := σ4088) hx0 hcs (by rw [e4089]; exact (kp_M (by decide)))
  have hc4090 : 0 < gN_ σ4088 109 := by rw [e4089]; exact hc4026
  have hc4091 : (gN_ σ 112) < gN_ σ4088 112 := by rw [e4089]; exact hc4027
  have hc4092 : (gN_ σ17 113) < gN_ σ4088 113 := by rw [e4089]; exact hc4028
  have hc4093 : (gN_ σ28 114) < gN_ σ4088 114 := by rw [e4089]; exact hc4029
  have hc4094 : (gN_ σ41 115) < gN_ σ4088 115 := by rw [e4089]; exact hc4030
  have hc4095 : (gN_ σ56 116) < gN_ σ4088 116 := by rw [e4089]; exact hc4031
  have hc4096 : (gN_ σ73 117) < gN_ σ4088 117 := by rw [e4089]; exact hc4032
  have hc4097 : (gN_ σ92 118) < gN_ σ4088 118 := by rw [e4089]; exact hc4033
  have hc4098 : (gN_ σ113 119) < gN_ σ4088 119 := by rw [e4089]; exact hc4034
  have hc4099 : (gN_ σ136 127) < gN_ σ4088 127 := by rw [e4089]; exact hc4035
  have hc4100 : (gN_ σ161 128) < gN_ σ4088 128 := by rw [e4089]; exact hc4036
  have hc4101 : (gN_ σ188 129) < gN_ σ4088 129 := by rw [e4089]; exact hc4037
  have hc4102 : (gN_ σ217 130) < gN_ σ4088 130 := by rw [e4089]; exact hc4038
  have hc4103 : (gN_ σ248 131) < gN_ σ4088 131 := by rw [e4089]; exact hc4039
  have hc4104 : (gN_ σ281 137) < gN_ σ4088 137 := by rw [e4089]; exact hc4040
  have hc4105 : (gN_ σ316 138) < gN_ σ4088 138 := by rw [e4089]; exact hc4041
  have hc4106 : (gN_ σ353 145) < gN_ σ4088 145 := by rw [e4089]; exact hc4042
  have hc4107 : (gN_ σ392 146) < gN_ σ4088 146 := by rw [e4089]; exact hc4043
  have hc4108 : (gN_ σ433 147) < gN_ σ4088 147 := by rw [e4089]; exact hc4044
  have hc4109 : (gN_ σ476 148) < gN_ σ4088 148 := by rw [e4089]; exact hc4045
  have hc4110 : (gN_ σ521 150) < gN_ σ4088 150 := by rw [e4089]; exact hc4046
  have hc4111 : (gN_ σ568 151) < gN_ σ4088 151 := by rw [e4089]; exact hc4047
  have hc4112 : (gN_ σ617 152) < gN_ σ4088 152 := by rw [e4089]; exact hc4048
  have hc4113 : (gN_ σ668 153) < gN_ σ4088 153 := by rw [e4089]; exact hc4049
  have hc4114 : (gN_ σ721 154) < gN_ σ4088 154 := by rw [e4089]; exact hc4050
  have hc4115 : (gN_ σ776 155) < gN_ σ4088 155 := by rw [e4089]; exact hc4051
  have hc4116 : (gN_ σ833 156) < gN_ σ4088 156 := by rw [e4089]; exact hc4052
  have hc4117 : (gN_ σ892 157) < gN_ σ4088 157 := by rw [e4089]; exact hc4053
  have hc4118 : (gN_ σ953 158) < gN_ σ4088 158 := by rw [e4089]; exact hc4054
  have hc4119 : (gN_ σ1016 163) < gN_ σ4088 163 := by rw [e4089]; exact hc4055
  have hc4120 : (gN_ σ1081 164) < gN_ σ4088 164 := by rw [e4089]; exact hc4056
  have hc4121 : (gN_ σ1148 165) < gN_ σ4088 165 := by rw [e4089]; exact hc4057
  have hc4122 : (gN_ σ1217 166) < gN_ σ4088 166 := by rw [e4089]; exact hc4058
  have hc4123 : (gN_ σ1288 171) < gN_ σ4088 171 := by rw [e4089]; exact hc4059
  have hc4124 : (gN_ σ1361 175) < gN_ σ4088 175 := by rw [e4089]; exact hc4060
  have hc4125 : (gN_ σ1436 176) < gN_ σ4088 176 := by rw [e4089]; exact hc4061
  have hc4126 : (gN_ σ1513 177) < gN_ σ4088 177 := by rw [e4089]; exact hc4062
  have hc4127 : (gN_ σ1592 178) < gN_ σ4088 178 := by rw [e4089]; exact hc4063
  have hc4128 : (gN_ σ1673 179) < gN_ σ4088 179 := by rw [e4089]; exact hc4064
  have hc4129 : (gN_ σ1756 182) < gN_ σ4088 182 := by rw [e4089]; exact hc4065
  have hc4130 : (gN_ σ1841 187) < gN_ σ4088 187 := by rw [e4089]; exact hc4066
  have hc4131 : (gN_ σ1928 188) < gN_ σ4088 188 := by rw [e4089]; exact hc4067
  have hc4132 : (gN_ σ2017 189) < gN_ σ4088 189 := by rw [e4089]; exact hc4068
  have hc4133 : (gN_ σ2108 190) < gN_ σ4088 190 := by rw [e4089]; exact hc4069
  have hc4134 : (gN_ σ2201 193) < gN_ σ4088 193 := by rw [e4089]; exact hc4070
  have hc4135 : (gN_ σ2296 194) < gN_ σ4088 194 := by rw [e4089]; exact hc4071
  have hc4136 : (gN_ σ2393 195) < gN_ σ4088 195 := by rw [e4089]; exact hc4072
  have hc4137 : (gN_ σ2492 196) < gN_ σ4088 196 := by rw [e4089]; exact hc4073
  have hc4138 : (gN_ σ2593 197) < gN_ σ4088 197 := by rw [e4089]; exact hc4074
  have hc4139 : (gN_ σ2696 198) < gN_ σ4088 198 := by rw [e4089]; exact hc4075
  have hc4140 : (gN_ σ2801 199) < gN_ σ4088 199 := by rw [e4089]; exact hc4076
  have hc4141 : (gN_ σ2908 200) < gN_ σ4088 200 := by rw [e4089]; exact hc4077
  have hc4142 : (gN_ σ3017 201) < gN_ σ4088 201 := by rw [e4089]; exact hc4078
  have hc4143 : (gN_ σ3128 202) < gN_ σ4088 202 := by rw [e4089]; exact hc4079
  have hc4144 : (gN_ σ3241 206) < gN_ σ4088 206 := by rw [e4089]; exact hc4080
  have hc4145 : (gN_ σ3356 207) < gN_ σ4088 207 := by rw [e4089]; exact hc4081
  have hc4146 : (gN_ σ3473 208) < gN_ σ4088 208 := by rw [e4089]; exact hc4082
  have hc4147 : (gN_ σ3592 209) < gN_ σ4088 209 := by rw [e4089]; exact hc4083
  have hc4148 : (gN_ σ3713 210) < gN_ σ4088 210 := by rw [e4089]; exact hc4084
  have hc4149 : (gN_ σ3836 211) < gN_ σ4088 211 := by rw [e4089]; exact hc4085
  have hc4150 : (gN_ σ3961 212) < gN_ σ4088 212 := by rw [e4089]; exact hc4086
  refine lv_aload_n hx hb dX10_init_489 rfl (lv_at hl 0 rfl) ?_
  refine lv_bipush (v := 64) hx hb dX10_init_490 (by decide) ?_
  have hp4151 : pr σ4088 109 0 := (pr_dy hc4090 rfl rfl)
  obtain ⟨σ4152, e4153, hs⟩ := ww_let hs
  obtain ⟨hs, hck⟩ := ww_ck1 hs
  have hrm1 := hcs.room (σ1 := σ4152) (a := 1) (b := 64) (by rw [e4153]; rfl) (by rw [e4153]; rfl) hck
  refine ww_newa (atype := .boolean) hx hb (hts _ q224) hW 213 2 64 (Or.inl rfl) sole_213 (Or.inr hgm) rfl rfl rfl (by decide) rfl (Nat.le_of_ble_eq_true rfl) hrm1.1 hrm1.2 dX10_init_492 (fun H L hx1 hW => ?_)
  rw [← e4153] at hx1 hW
  have hcs := hcs.more (σ1 := σ4152) (a := 1) (b := 64) (by rw [e4153]; rfl) (by rw [e4153]; rfl)
  have hrm := hrm1
  have hc4154 : 0 < gN_ σ4152 109 := Nat.lt_of_lt_of_le hc4090 (hx1.2.1 109)
  have hc4155 : (gN_ σ 112) < gN_ σ4152 112 := Nat.lt_of_lt_of_le hc4091 (hx1.2.1 112)
  have hc4156 : (gN_ σ17 113) < gN_ σ4152 113 := Nat.lt_of_lt_of_le hc4092 (hx1.2.1 113)
  have hc4157 : (gN_ σ28 114) < gN_ σ4152 114 := Nat.lt_of_lt_of_le hc4093 (hx1.2.1 114)
  have hc4158 : (gN_ σ41 115) < gN_ σ4152 115 := Nat.lt_of_lt_of_le hc4094 (hx1.2.1 115)
  have hc4159 : (gN_ σ56 116) < gN_ σ4152 116 := Nat.lt_of_lt_of_le hc4095 (hx1.2.1 116)
  have hc4160 : (gN_ σ73 117) < gN_ σ4152 117 := Nat.lt_of_lt_of_le hc4096 (hx1.2.1 117)
  have hc4161 : (gN_ σ92 118) < gN_ σ4152 118 := Nat.lt_of_lt_of_le hc4097 (hx1.2.1 118)
  have hc4162 : (gN_ σ113 119) < gN_ σ4152 119 := Nat.lt_of_lt_of_le hc4098 (hx1.2.1 119)
  have hc4163 : (gN_ σ136 127) < gN_ σ4152 127 := Nat.lt_of_lt_of_le hc4099 (hx1.2.1 127)
  have hc4164 : (gN_ σ161 128) < gN_ σ4152 128 := Nat.lt_of_lt_of_le hc4100 (hx1.2.1 128)
  have hc4165 : (gN_ σ188 129) < gN_ σ4152 129 := Nat.lt_of_lt_of_le hc4101 (hx1.2.1 129)
  have hc4166 : (gN_ σ217 130) < gN_ σ4152 130 := Nat.lt_of_lt_of_le hc4102 (hx1.2.1 130)
  have hc4167 : (gN_ σ248 131) < gN_ σ4152 131 := Nat.lt_of_lt_of_le hc4103 (hx1.2.1 131)
  have hc4168 : (gN_ σ281 137) < gN_ σ4152 137 := Nat.lt_of_lt_of_le hc4104 (hx1.2.1 137)
  have hc4169 : (gN_ σ316 138) < gN_ σ4152 138 := Nat.lt_of_lt_of_le hc4105 (hx1.2.1 138)
  have hc4170 : (gN_ σ353 145) < gN_ σ4152 145 := Nat.lt_of_lt_of_le hc4106 (hx1.2.1 145)
  have hc4171 : (gN_ σ392 146) < gN_ σ4152 146 := Nat.lt_of_lt_of_le hc4107 (hx1.2.1 146)
  have hc4172 : (gN_ σ433 147) < gN_ σ4152 147 := Nat.lt_of_lt_of_le hc4108 (hx1.2.1 147)
  have hc4173 : (gN_ σ476 148) < gN_ σ4152 148 := Nat.lt_of_lt_of_le hc4109 (hx1.2.1 148)
  have hc4174 : (gN_ σ521 150) < gN_ σ4152 150 := Nat.lt_of_lt_of_le hc4110 (hx1.2.1 150)
  have hc4175 : (gN_ σ568 151) < gN_ σ4152 151 := Nat.lt_of_lt_of_le hc4111 (hx1.2.1 151)
  have hc4176 : (gN_ σ617 152) < gN_ σ4152 152 := Nat.lt_of_lt_of_le hc4112 (hx1.2.1 152)
  have hc4177 : (gN_ σ668 153) < gN_ σ4152 153 := Nat.lt_of_lt_of_le hc4113 (hx1.2.1 153)
  have hc4178 : (gN_ σ721 154) < gN_ σ4152 154 := Nat.lt_of_lt_of_le hc4114 (hx1.2.1 154)
  have hc4179 : (gN_ σ776 155) < gN_ σ4152 155 := Nat.lt_of_lt_of_le hc4115 (hx1.2.1 155)
  have hc4180 : (gN_ σ833 156) < gN_ σ4152 156 := Nat.lt_of_lt_of_le hc4116 (hx1.2.1 156)
  have hc4181 : (gN_ σ892 157) < gN_ σ4152 157 := Nat.lt_of_lt_of_le hc4117 (hx1.2.1 157)
  have hc4182 : (gN_ σ953 158) < gN_ σ4152 158 := Nat.lt_of_lt_of_le hc4118 (hx1.2.1 158)
  have hc4183 : (gN_ σ1016 163) < gN_ σ4152 163 := Nat.lt_of_lt_of_le hc4119 (hx1.2.1 163)
  have hc4184 : (gN_ σ1081 164) < gN_ σ4152 164 := Nat.lt_of_lt_of_le hc4120 (hx1.2.1 164)
  have hc4185 : (gN_ σ1148 165) < gN_ σ4152 165 := Nat.lt_of_lt_of_le hc4121 (hx1.2.1 165)
  have hc4186 : (gN_ σ1217 166) < gN_ σ4152 166 := Nat.lt_of_lt_of_le hc4122 (hx1.2.1 166)
  have hc4187 : (gN_ σ1288 171) < gN_ σ4152 171 := Nat.lt_of_lt_of_le hc4123 (hx1.2.1 171)
  have hc4188 : (gN_ σ1361 175) < gN_ σ4152 175 := Nat.lt_of_lt_of_le hc4124 (hx1.2.1 175)
  have hc4189 : (gN_ σ1436 176) < gN_ σ4152 176 := Nat.lt_of_lt_of_le hc4125 (hx1.2.1 176)
  have hc4190 : (gN_ σ1513 177) < gN_ σ4152 177 := Nat.lt_of_lt_of_le hc4126 (hx1.2.1 177)
  have hc4191 : (gN_ σ1592 178) < gN_ σ4152 178 := Nat.lt_of_lt_of_le hc4127 (hx1.2.1 178)
  have hc4192 : (gN_ σ1673 179) < gN_ σ4152 179 := Nat.lt_of_lt_of_le hc4128 (hx1.2.1 179)
  have hc4193 : (gN_ σ1756 182) < gN_ σ4152 182 := Nat.lt_of_lt_of_le hc4129 (hx1.2.1 182)
  have hc4194 : (gN_ σ1841 187) < gN_ σ4152 187 := Nat.lt_of_lt_of_le hc4130 (hx1.2.1 187)
  have hc4195 : (gN_ σ1928 188) < gN_ σ4152 188 := Nat.lt_of_lt_of_le hc4131 (hx1.2.1 188)
  have hc4196 : (gN_ σ2017 189) < gN_ σ4152 189 := Nat.lt_of_lt_of_le hc4132 (hx1.2.1 189)
  have hc4197 : (gN_ σ2108 190) < gN_ σ4152 190 := Nat.lt_of_lt_of_le hc4133 (hx1.2.1 190)
  have hc4198 : (gN_ σ2201 193) < gN_ σ4152 193 := Nat.lt_of_lt_of_le hc4134 (hx1.2.1 193)
  have hc4199 : (gN_ σ2296 194) < gN_ σ4152 194 := Nat.lt_of_lt_of_le hc4135 (hx1.2.1 194)
  have hc4200 : (gN_ σ2393 195) < gN_ σ4152 195 := Nat.lt_of_lt_of_le hc4136 (hx1.2.1 195)
  have hc4201 : (gN_ σ2492 196) < gN_ σ4152 196 := Nat.lt_of_lt_of_le hc4137 (hx1.2.1 196)
  have hc4202 : (gN_ σ2593 197) < gN_ σ4152 197 := Nat.lt_of_lt_of_le hc4138 (hx1.2.1 197)
  have hc4203 : (gN_ σ2696 198) < gN_ σ4152 198 := Nat.lt_of_lt_of_le hc4139 (hx1.2.1 198)
  have hc4204 : (gN_ σ2801 199) < gN_ σ4152 199 := Nat.lt_of_lt_of_le hc4140 (hx1.2.1 199)
  have hc4205 : (gN_ σ2908 200) < gN_ σ4152 200 := Nat.lt_of_lt_of_le hc4141 (hx1.2.1 200)
  have hc4206 : (gN_ σ3017 201) < gN_ σ4152 201 := Nat.lt_of_lt_of_le hc4142 (hx1.2.1 201)
  have hc4207 : (gN_ σ3128 202) < gN_ σ4152 202 := Nat.lt_of_lt_of_le hc4143 (hx1.2.1 202)
  have hc4208 : (gN_ σ3241 206) < gN_ σ4152 206 := Nat.lt_of_lt_of_le hc4144 (hx1.2.1 206)
  have hc4209 : (gN_ σ3356 207) < gN_ σ4152 207 := Nat.lt_of_lt_of_le hc4145 (hx1.2.1 207)
  have hc4210 : (gN_ σ3473 208) < gN_ σ4152 208 := Nat.lt_of_lt_of_le hc4146 (hx1.2.1 208)
  have hc4211 : (gN_ σ3592 209) < gN_ σ4152 209 := Nat.lt_of_lt_of_le hc4147 (hx1.2.1 209)
  have hc4212 : (gN_ σ3713 210) < gN_ σ4152 210 := Nat.lt_of_lt_of_le hc4148 (hx1.2.1 210)
  have hc4213 : (gN_ σ3836 211) < gN_ σ4152 211 := Nat.lt_of_lt_of_le hc4149 (hx1.2.1 211)
  have hc4214 : (gN_ σ3961 212) < gN_ σ4152 212 := Nat.lt_of_lt_of_le hc4150 (hx1.2.1 212)
  have hc4215 : gN_ σ4088 213 < gN_ σ4152 213 := by rw [e4153]; exact nA_lt rfl
  rw [show ow_ 213 = 213 from rfl]
  have hl : lv_has ls 2 [(0, .ref (L 109 0))] := by rw [hx1.at hp4151 (by decide)]; exact hl
  refine ww_stk (st1 := [.ref (L 213 (gN_ σ4088 213)), .ref (L 109 0)]) (by rw [hx1.at hp4151 (by decide)]) ?_
  have hx0 := hx0.trans hx1
  obtain ⟨hc4216, hs⟩ := ww_chk hs
  have hpq : pr σ4152 213 (gN_ σ4088 213) := (pr_dy hc4215 rfl rfl)
  rw [hc4216] at hpq
  obtain ⟨σ4217, e4218, hs⟩ := ww_let hs
  refine ww_markF (d := (1, 213, 0)) hx hb hts hown (hnm.trans rfl) hW 109 0 103 0 (pr_dy hc4154 rfl rfl) (tgd_1 hpq) (obv_0 rfl) rfl (by decide) (Nat.le_of_ble_eq_true rfl) in_X10 tyX10_ok nmX10 rfl (Nat.le_of_ble_eq_true rfl) (hts _ q1796) (fun _ h => h) rfl rfl rfl (fun _ => rfl) (fun _ => rfl) (by rw [hc4216]; rfl) dX10_init_494 (fun H locs hW => ?_)
  have hW : wv g L σ4217 s H locs := by rw [e4218]; exact hW
  obtain ⟨hx0, hcs⟩ := lx_s (σ1 := σ4217) hx0 hcs (by rw [e4218]; exact (kp_M (by decide)))
  have hc4219 : 0 < gN_ σ4217 109 := by rw [e4218]; exact hc4154
  have hc4220 : (gN_ σ 112) < gN_ σ4217 112 := by rw [e4218]; exact hc4155
  have hc4221 : (gN_ σ17 113) < gN_ σ4217 113 := by rw [e4218]; exact hc4156
  have hc4222 : (gN_ σ28 114) < gN_ σ4217 114 := by rw [e4218]; exact hc4157
  have hc4223 : (gN_ σ41 115) < gN_ σ4217 115 := by rw [e4218]; exact hc4158
  have hc4224 : (gN_ σ56 116) < gN_ σ4217 116 := by rw [e4218]; exact hc4159
  have hc4225 : (gN_ σ73 117) < gN_ σ4217 117 := by rw [e4218]; exact hc4160
  have hc4226 : (gN_ σ92 118) < gN_ σ4217 118 := by rw [e4218]; exact hc4161
  have hc4227 : (gN_ σ113 119) < gN_ σ4217 119 := by rw [e4218]; exact hc4162
  have hc4228 : (gN_ σ136 127) < gN_ σ4217 127 := by rw [e4218]; exact hc4163
  have hc4229 : (gN_ σ161 128) < gN_ σ4217 128 := by rw [e4218]; exact hc4164
  have hc4230 : (gN_ σ188 129) < gN_ σ4217 129 := by rw [e4218]; exact hc4165
  have hc4231 : (gN_ σ217 130) < gN_ σ4217 130 := by rw [e4218]; exact hc4166
  have hc4232 : (gN_ σ248 131) < gN_ σ4217 131 := by rw [e4218]; exact hc4167
  have hc4233 : (gN_ σ281 137) < gN_ σ4217 137 := by rw [e4218]; exact hc4168
  have hc4234 : (gN_ σ316 138) < gN_ σ4217 138 := by rw [e4218]; exact hc4169
  have hc4235 : (gN_ σ353 145) < gN_ σ4217 145 := by rw [e4218]; exact hc4170
  have hc4236 : (gN_ σ392 146) < gN_ σ4217 146 := by rw [e4218]; exact hc4171
  have hc4237 : (gN_ σ433 147) < gN_ σ4217 147 := by rw [e4218]; exact hc4172
  have hc4238 : (gN_ σ476 148) < gN_ σ4217 148 := by rw [e4218]; exact hc4173
  have hc4239 : (gN_ σ521 150) < gN_ σ4217 150 := by rw [e4218]; exact hc4174
  have hc4240 : (gN_ σ568 151) < gN_ σ4217 151 := by rw [e4218]; exact hc4175
  have hc4241 : (gN_ σ617 152) < gN_ σ4217 152 := by rw [e4218]; exact hc4176
  have hc4242 : (gN_ σ668 153) < gN_ σ4217 153 := by rw [e4218]; exact hc4177
  have hc4243 : (gN_ σ721 154) < gN_ σ4217 154 := by rw [e4218]; exact hc4178
  have hc4244 : (gN_ σ776 155) < gN_ σ4217 155 := by rw [e4218]; exact hc4179
  have hc4245 : (gN_ σ833 156) < gN_ σ4217 156 := by rw [e4218]; exact hc4180
  have hc4246 : (gN_ σ892 157) < gN_ σ4217 157 := by rw [e4218]; exact hc4181
  have hc4247 : (gN_ σ953 158) < gN_ σ4217 158 := by rw [e4218]; exact hc4182
  have hc4248 : (gN_ σ1016 163) < gN_ σ4217 163 := by rw [e4218]; exact hc4183
  have hc4249 : (gN_ σ1081 164) < gN_ σ4217 164 := by rw [e4218]; exact hc4184
  have hc4250 : (gN_ σ1148 165) < gN_ σ4217 165 := by rw [e4218]; exact hc4185
  have hc4251 : (gN_ σ1217 166) < gN_ σ4217 166 := by rw [e4218]; exact hc4186
  have hc4252 : (gN_ σ1288 171) < gN_ σ4217 171 := by rw [e4218]; exact hc4187
  have hc4253 : (gN_ σ1361 175) < gN_ σ4217 175 := by rw [e4218]; exact hc4188
  have hc4254 : (gN_ σ1436 176) < gN_ σ4217 176 := by rw [e4218]; exact hc4189
  have hc4255 : (gN_ σ1513 177) < gN_ σ4217 177 := by rw [e4218]; exact hc4190
  have hc4256 : (gN_ σ1592 178) < gN_ σ4217 178 := by rw [e4218]; exact hc4191
  have hc4257 : (gN_ σ1673 179) < gN_ σ4217 179 := by rw [e4218]; exact hc4192
  have hc4258 : (gN_ σ1756 182) < gN_ σ4217 182 := by rw [e4218]; exact hc4193
  have hc4259 : (gN_ σ1841 187) < gN_ σ4217 187 := by rw [e4218]; exact hc4194
  have hc4260 : (gN_ σ1928 188) < gN_ σ4217 188 := by rw [e4218]; exact hc4195
  have hc4261 : (gN_ σ2017 189) < gN_ σ4217 189 := by rw [e4218]; exact hc4196
  have hc4262 : (gN_ σ2108 190) < gN_ σ4217 190 := by rw [e4218]; exact hc4197
  have hc4263 : (gN_ σ2201 193) < gN_ σ4217 193 := by rw [e4218]; exact hc4198
  have hc4264 : (gN_ σ2296 194) < gN_ σ4217 194 := by rw [e4218]; exact hc4199
  have hc4265 : (gN_ σ2393 195) < gN_ σ4217 195 := by rw [e4218]; exact hc4200
  have hc4266 : (gN_ σ2492 196) < gN_ σ4217 196 := by rw [e4218]; exact hc4201
  have hc4267 : (gN_ σ2593 197) < gN_ σ4217 197 := by rw [e4218]; exact hc4202
  have hc4268 : (gN_ σ2696 198) < gN_ σ4217 198 := by rw [e4218]; exact hc4203
  have hc4269 : (gN_ σ2801 199) < gN_ σ4217 199 := by rw [e4218]; exact hc4204
  have hc4270 : (gN_ σ2908 200) < gN_ σ4217 200 := by rw [e4218]; exact hc4205
  have hc4271 : (gN_ σ3017 201) < gN_ σ4217 201 := by rw [e4218]; exact hc4206
  have hc4272 : (gN_ σ3128 202) < gN_ σ4217 202 := by rw [e4218]; exact hc4207
  have hc4273 : (gN_ σ3241 206) < gN_ σ4217 206 := by rw [e4218]; exact hc4208
  have hc4274 : (gN_ σ3356 207) < gN_ σ4217 207 := by rw [e4218]; exact hc4209
  have hc4275 : (gN_ σ3473 208) < gN_ σ4217 208 := by rw [e4218]; exact hc4210
  have hc4276 : (gN_ σ3592 209) < gN_ σ4217 209 := by rw [e4218]; exact hc4211
  have hc4277 : (gN_ σ3713 210) < gN_ σ4217 210 := by rw [e4218]; exact hc4212
  have hc4278 : (gN_ σ3836 211) < gN_ σ4217 211 := by rw [e4218]; exact hc4213
  have hc4279 : (gN_ σ3961 212) < gN_ σ4217 212 := by rw [e4218]; exact hc4214
  have hc4280 : (gN_ σ4088 213) < gN_ σ4217 213 := by rw [e4218]; exact hc4215
  refine lv_aload_n hx hb dX10_init_497 rfl (lv_at hl 0 rfl) ?_
  refine lv_bipush (v := 64) hx hb dX10_init_498 (by decide) ?_
  have hp4281 : pr σ4217 109 0 := (pr_dy hc4219 rfl rfl)
  obtain ⟨σ4282, e4283, hs⟩ := ww_let hs
  obtain ⟨hs, hck⟩ := ww_ck1 hs
  have hrm1 := hcs.room (σ1 := σ4282) (a := 1) (b := 64) (by rw [e4283]; rfl) (by rw [e4283]; rfl) hck
  refine ww_newa (atype := .boolean) hx hb (hts _ q224) hW 214 2 64 (Or.inl rfl) sole_214 (Or.inr hgm) rfl rfl rfl (by decide) rfl (Nat.le_of_ble_eq_true rfl) hrm1.1 hrm1.2 dX10_init_500 (fun H L hx1 hW => ?_)
  rw [← e4283] at hx1 hW
  have hcs := hcs.more (σ1 := σ4282) (a := 1) (b := 64) (by rw [e4283]; rfl) (by rw [e4283]; rfl)
  have hrm := hrm1
  have hc4284 : 0 < gN_ σ4282 109 := Nat.lt_of_lt_of_le hc4219 (hx1.2.1 109)
  have hc4285 : (gN_ σ 112) < gN_ σ4282 112 := Nat.lt_of_lt_of_le hc4220 (hx1.2.1 112)
  have hc4286 : (gN_ σ17 113) < gN_ σ4282 113 := Nat.lt_of_lt_of_le hc4221 (hx1.2.1 113)
  have hc4287 : (gN_ σ28 114) < gN_ σ4282 114 := Nat.lt_of_lt_of_le hc4222 (hx1.2.1 114)
  have hc4288 : (gN_ σ41 115) < gN_ σ4282 115 := Nat.lt_of_lt_of_le hc4223 (hx1.2.1 115)
  have hc4289 : (gN_ σ56 116) < gN_ σ4282 116 := Nat.lt_of_lt_of_le hc4224 (hx1.2.1 116)
  have hc4290 : (gN_ σ73 117) < gN_ σ4282 117 := Nat.lt_of_lt_of_le hc4225 (hx1.2.1 117)
  have hc4291 : (gN_ σ92 118) < gN_ σ4282 118 := Nat.lt_of_lt_of_le hc4226 (hx1.2.1 118)
  have hc4292 : (gN_ σ113 119) < gN_ σ4282 119 := Nat.lt_of_lt_of_le hc4227 (hx1.2.1 119)
  have hc4293 : (gN_ σ136 127) < gN_ σ4282 127 := Nat.lt_of_lt_of_le hc4228 (hx1.2.1 127)
  have hc4294 : (gN_ σ161 128) < gN_ σ4282 128 := Nat.lt_of_lt_of_le hc4229 (hx1.2.1 128)
  have hc4295 : (gN_ σ188 129) < gN_ σ4282 129 := Nat.lt_of_lt_of_le hc4230 (hx1.2.1 129)
  have hc4296 : (gN_ σ217 130) < gN_ σ4282 130 := Nat.lt_of_lt_of_le hc4231 (hx1.2.1 130)
  have hc4297 : (gN_ σ248 131) < gN_ σ4282 131 := Nat.lt_of_lt_of_le hc4232 (hx1.2.1 131)
  have hc4298 : (gN_ σ281 137) < gN_ σ4282 137 := Nat.lt_of_lt_of_le hc4233 (hx1.2.1 137)
  have hc4299 : (gN_ σ316 138) < gN_ σ4282 138 := Nat.lt_of_lt_of_le hc4234 (hx1.2.1 138)
  have hc4300 : (gN_ σ353 145) < gN_ σ4282 145 := Nat.lt_of_lt_of_le hc4235 (hx1.2.1 145)
  have hc4301 : (gN_ σ392 146) < gN_ σ4282 146 := Nat.lt_of_lt_of_le hc4236 (hx1.2.1 146)
  have hc4302 : (gN_ σ433 147) < gN_ σ4282 147 := Nat.lt_of_lt_of_le hc4237 (hx1.2.1 147)
  have hc4303 : (gN_ σ476 148) < gN_ σ4282 148 := Nat.lt_of_lt_of_le hc4238 (hx1.2.1 148)
  have hc4304 : (gN_ σ521 150) < gN_ σ4282 150 := Nat.lt_of_lt_of_le hc4239 (hx1.2.1 150)
  have hc4305 : (gN_ σ568 151) < gN_ σ4282 151 := Nat.lt_of_lt_of_le hc4240 (hx1.2.1 151)
  have hc4306 : (gN_ σ617 152) < gN_ σ4282 152 := Nat.lt_of_lt_of_le hc4241 (hx1.2.1 152)
  have hc4307 : (gN_ σ668 153) < gN_ σ4282 153 := Nat.lt_of_lt_of_le hc4242 (hx1.2.1 153)
  have hc4308 : (gN_ σ721 154) < gN_ σ4282 154 := Nat.lt_of_lt_of_le hc4243 (hx1.2.1 154)
  have hc4309 : (gN_ σ776 155) < gN_ σ4282 155 := Nat.lt_of_lt_of_le hc4244 (hx1.2.1 155)
  have hc4310 : (gN_ σ833 156) < gN_ σ4282 156 := Nat.lt_of_lt_of_le hc4245 (hx1.2.1 156)
  have hc4311 : (gN_ σ892 157) < gN_ σ4282 157 := Nat.lt_of_lt_of_le hc4246 (hx1.2.1 157)
  have hc4312 : (gN_ σ953 158) < gN_ σ4282 158 := Nat.lt_of_lt_of_le hc4247 (hx1.2.1 158)
  have hc4313 : (gN_ σ1016 163) < gN_ σ4282 163 := Nat.lt_of_lt_of_le hc4248 (hx1.2.1 163)
  have hc4314 : (gN_ σ1081 164) < gN_ σ4282 164 := Nat.lt_of_lt_of_le hc4249 (hx1.2.1 164)
  have hc4315 : (gN_ σ1148 165) < gN_ σ4282 165 := Nat.lt_of_lt_of_le hc4250 (hx1.2.1 165)
  have hc4316 : (gN_ σ1217 166) < gN_ σ4282 166 := Nat.lt_of_lt_of_le hc4251 (hx1.2.1 166)
  have hc4317 : (gN_ σ1288 171) < gN_ σ4282 171 := Nat.lt_of_lt_of_le hc4252 (hx1.2.1 171)
  have hc4318 : (gN_ σ1361 175) < gN_ σ4282 175 := Nat.lt_of_lt_of_le hc4253 (hx1.2.1 175)
  have hc4319 : (gN_ σ1436 176) < gN_ σ4282 176 := Nat.lt_of_lt_of_le hc4254 (hx1.2.1 176)
  have hc4320 : (gN_ σ1513 177) < gN_ σ4282 177 := Nat.lt_of_lt_of_le hc4255 (hx1.2.1 177)
  have hc4321 : (gN_ σ1592 178) < gN_ σ4282 178 := Nat.lt_of_lt_of_le hc4256 (hx1.2.1 178)
  have hc4322 : (gN_ σ1673 179) < gN_ σ4282 179 := Nat.lt_of_lt_of_le hc4257 (hx1.2.1 179)
  have hc4323 : (gN_ σ1756 182) < gN_ σ4282 182 := Nat.lt_of_lt_of_le hc4258 (hx1.2.1 182)
  have hc4324 : (gN_ σ1841 187) < gN_ σ4282 187 := Nat.lt_of_lt_of_le hc4259 (hx1.2.1 187)
  have hc4325 : (gN_ σ1928 188) < gN_ σ4282 188 := Nat.lt_of_lt_of_le hc4260 (hx1.2.1 188)
  have hc4326 : (gN_ σ2017 189) < gN_ σ4282 189 := Nat.lt_of_lt_of_le hc4261 (hx1.2.1 189)
  have hc4327 : (gN_ σ2108 190) < gN_ σ4282 190 := Nat.lt_of_lt_of_le hc4262 (hx1.2.1 190)
  have hc4328 : (gN_ σ2201 193) < gN_ σ4282 193 := Nat.lt_of_lt_of_le hc4263 (hx1.2.1 193)
  have hc4329 : (gN_ σ2296 194) < gN_ σ4282 194 := Nat.lt_of_lt_of_le hc4264 (hx1.2.1 194)
  have hc4330 : (gN_ σ2393 195) < gN_ σ4282 195 := Nat.lt_of_lt_of_le hc4265 (hx1.2.1 195)
  have hc4331 : (gN_ σ2492 196) < gN_ σ4282 196 := Nat.lt_of_lt_of_le hc4266 (hx1.2.1 196)
  have hc4332 : (gN_ σ2593 197) < gN_ σ4282 197 := Nat.lt_of_lt_of_le hc4267 (hx1.2.1 197)
  have hc4333 : (gN_ σ2696 198) < gN_ σ4282 198 := Nat.lt_of_lt_of_le hc4268 (hx1.2.1 198)
  have hc4334 : (gN_ σ2801 199) < gN_ σ4282 199 := Nat.lt_of_lt_of_le hc4269 (hx1.2.1 199)
  have hc4335 : (gN_ σ2908 200) < gN_ σ4282 200 := Nat.lt_of_lt_of_le hc4270 (hx1.2.1 200)
  have hc4336 : (gN_ σ3017 201) < gN_ σ4282 201 := Nat.lt_of_lt_of_le hc4271 (hx1.2.1 201)
  have hc4337 : (gN_ σ3128 202) < gN_ σ4282 202 := Nat.lt_of_lt_of_le hc4272 (hx1.2.1 202)
  have hc4338 : (gN_ σ3241 206) < gN_ σ4282 206 := Nat.lt_of_lt_of_le hc4273 (hx1.2.1 206)
  have hc4339 : (gN_ σ3356 207) < gN_ σ4282 207 := Nat.lt_of_lt_of_le hc4274 (hx1.2.1 207)
  have hc4340 : (gN_ σ3473 208) < gN_ σ4282 208 := Nat.lt_of_lt_of_le hc4275 (hx1.2.1 208)
  have hc4341 : (gN_ σ3592 209) < gN_ σ4282 209 := Nat.lt_of_lt_of_le hc4276 (hx1.2.1 209)
  have hc4342 : (gN_ σ3713 210) < gN_ σ4282 210 := Nat.lt_of_lt_of_le hc4277 (hx1.2.1 210)
  have hc4343 : (gN_ σ3836 211) < gN_ σ4282 211 := Nat.lt_of_lt_of_le hc4278 (hx1.2.1 211)
  have hc4344 : (gN_ σ3961 212) < gN_ σ4282 212 := Nat.lt_of_lt_of_le hc4279 (hx1.2.1 212)
  have hc4345 : (gN_ σ4088 213) < gN_ σ4282 213 := Nat.lt_of_lt_of_le hc4280 (hx1.2.1 213)
  have hc4346 : gN_ σ4217 214 < gN_ σ4282 214 := by rw [e4283]; exact nA_lt rfl
  rw [show ow_ 214 = 214 from rfl]
  have hl : lv_has ls 2 [(0, .ref (L 109 0))] := by rw [hx1.at hp4281 (by decide)]; exact hl
  refine ww_stk (st1 := [.ref (L 214 (gN_ σ4217 214)), .ref (L 109 0)]) (by rw [hx1.at hp4281 (by decide)]) ?_
  have hx0 := hx0.trans hx1
  obtain ⟨hc4347, hs⟩ := ww_chk hs
  have hpq : pr σ4282 214 (gN_ σ4217 214) := (pr_dy hc4346 rfl rfl)
  rw [hc4347] at hpq
  obtain ⟨σ4348, e4349, hs⟩ := ww_let hs
  refine ww_markF (d := (1, 214, 0)) hx hb hts hown (hnm.trans rfl) hW 109 0 104 0 (pr_dy hc4284 rfl rfl) (tgd_1 hpq) (obv_0 rfl) rfl (by decide) (Nat.le_of_ble_eq_true rfl) in_X10 tyX10_ok nmX10 rfl (Nat.le_of_ble_eq_true rfl) (hts _ q1797) (fun _ h => h) rfl rfl rfl (fun _ => rfl) (fun _ => rfl) (by rw [hc4347]; rfl) dX10_init_502 (fun H locs hW => ?_)
  have hW : wv g L σ4348 s H locs := by rw [e4349]; exact hW
  obtain ⟨hx0, hcs⟩ := lx_s (σ1 := σ4348) hx0 hcs (by rw [e4349]; exact (kp_M (by decide)))
  have hc4350 : 0 < gN_ σ4348 109 := by rw [e4349]; exact hc4284
  have hc4351 : (gN_ σ 112) < gN_ σ4348 112 := by rw [e4349]; exact hc4285
  have hc4352 : (gN_ σ17 113) < gN_ σ4348 113 := by rw [e4349]; exact hc4286
  have hc4353 : (gN_ σ28 114) < gN_ σ4348 114 := by rw [e4349]; exact hc4287
  have hc4354 : (gN_ σ41 115) < gN_ σ4348 115 := by rw [e4349]; exact hc4288
  have hc4355 : (gN_ σ56 116) < gN_ σ4348 116 := by rw [e4349]; exact hc4289
  have hc4356 : (gN_ σ73 117) < gN_ σ4348 117 := by rw [e4349]; exact hc4290
  have hc4357 : (gN_ σ92 118) < gN_ σ4348 118 := by rw [e4349]; exact hc4291
  have hc4358 : (gN_ σ113 119) < gN_ σ4348 119 := by rw [e4349]; exact hc4292
  have hc4359 : (gN_ σ136 127) < gN_ σ4348 127 := by rw [e4349]; exact hc4293
  have hc4360 : (gN_ σ161 128) < gN_ σ4348 128 := by rw [e4349]; exact hc4294
  have hc4361 : (gN_ σ188 129) < gN_ σ4348 129 := by rw [e4349]; exact hc4295
  have hc4362 : (gN_ σ217 130) < gN_ σ4348 130 := by rw [e4349]; exact hc4296
  have hc4363 : (gN_ σ248 131) < gN_ σ4348 131 := by rw [e4349]; exact hc4297
  have hc4364 : (gN_ σ281 137) < gN_ σ4348 137 := by rw [e4349]; exact hc4298
  have hc4365 : (gN_ σ316 138) < gN_ σ4348 138 := by rw [e4349]; exact hc4299
  have hc4366 : (gN_ σ353 145) < gN_ σ4348 145 := by rw [e4349]; exact hc4300
  have hc4367 : (gN_ σ392 146) < gN_ σ4348 146 := by rw [e4349]; exact hc4301
  have hc4368 : (gN_ σ433 147) < gN_ σ4348 147 := by rw [e4349]; exact hc4302
  have hc4369 : (gN_ σ476 148) < gN_ σ4348 148 := by rw [e4349]; exact hc4303
  have hc4370 : (gN_ σ521 150) < gN_ σ4348 150 := by rw [e4349]; exact hc4304
  have hc4371 : (gN_ σ568 151) < gN_ σ4348 151 := by rw [e4349]; exact hc4305
  have hc4372 : (gN_ σ617 152) < gN_ σ4348 152 := by rw [e4349]; exact hc4306
  have hc4373 : (gN_ σ668 153) < gN_ σ4348 153 := by rw [e4349]; exact hc4307
  have hc4374 : (gN_ σ721 154) < gN_ σ4348 154 := by rw [e4349]; exact hc4308
  have hc4375 : (gN_ σ776 155) < gN_ σ4348 155 := by rw [e4349]; exact hc4309
  have hc4376 : (gN_ σ833 156) < gN_ σ4348 156 := by rw [e4349]; exact hc4310
  have hc4377 : (gN_ σ892 157) < gN_ σ4348 157 := by rw [e4349]; exact hc4311
  have hc4378 : (gN_ σ953 158) < gN_ σ4348 158 := by rw [e4349]; exact hc4312
  have hc4379 : (gN_ σ1016 163) < gN_ σ4348 163 := by rw [e4349]; exact hc4313
  have hc4380 : (gN_ σ1081 164) < gN_ σ4348 164 := by rw [e4349]; exact hc4314
  have hc4381 : (gN_ σ1148 165) < gN_ σ4348 165 := by rw [e4349]; exact hc4315
  have hc4382 : (gN_ σ1217 166) < gN_ σ4348 166 := by rw [e4349]; exact hc4316
  have hc4383 : (gN_ σ1288 171) < gN_ σ4348 171 := by rw [e4349]; exact hc4317
  have hc4384 : (gN_ σ1361 175) < gN_ σ4348 175 := by rw [e4349]; exact hc4318
  have hc4385 : (gN_ σ1436 176) < gN_ σ4348 176 := by rw [e4349]; exact hc4319
  have hc4386 : (gN_ σ1513 177) < gN_ σ4348 177 := by rw [e4349]; exact hc4320
  have hc4387 : (gN_ σ1592 178) < gN_ σ4348 178 := by rw [e4349]; exact hc4321
  have hc4388 : (gN_ σ1673 179) < gN_ σ4348 179 := by rw [e4349]; exact hc4322
  have hc4389 : (gN_ σ1756 182) < gN_ σ4348 182 := by rw [e4349]; exact hc4323
  have hc4390 : (gN_ σ1841 187) < gN_ σ4348 187 := by rw [e4349]; exact hc4324
  have hc4391 : (gN_ σ1928 188) < gN_ σ4348 188 := by rw [e4349]; exact hc4325
  have hc4392 : (gN_ σ2017 189) < gN_ σ4348 189 := by rw [e4349]; exact hc4326
  have hc4393 : (gN_ σ2108 190) < gN_ σ4348 190 := by rw [e4349]; exact hc4327
  have hc4394 : (gN_ σ2201 193) < gN_ σ4348 193 := by rw [e4349]; exact hc4328
  have hc4395 : (gN_ σ2296 194) < gN_ σ4348 194 := by rw [e4349]; exact hc4329
  have hc4396 : (gN_ σ2393 195) < gN_ σ4348 195 := by rw [e4349]; exact hc4330
  have hc4397 : (gN_ σ2492 196) < gN_ σ4348 196 := by rw [e4349]; exact hc4331
  have hc4398 : (gN_ σ2593 197) < gN_ σ4348 197 := by rw [e4349]; exact hc4332
  have hc4399 : (gN_ σ2696 198) < gN_ σ4348 198 := by rw [e4349]; exact hc4333
  have hc4400 : (gN_ σ2801 199) < gN_ σ4348 199 := by rw [e4349]; exact hc4334
  have hc4401 : (gN_ σ2908 200) < gN_ σ4348 200 := by rw [e4349]; exact hc4335
  have hc4402 : (gN_ σ3017 201) < gN_ σ4348 201 := by rw [e4349]; exact hc4336
  have hc4403 : (gN_ σ3128 202) < gN_ σ4348 202 := by rw [e4349]; exact hc4337
  have hc4404 : (gN_ σ3241 206) < gN_ σ4348 206 := by rw [e4349]; exact hc4338
  have hc4405 : (gN_ σ3356 207) < gN_ σ4348 207 := by rw [e4349]; exact hc4339
  have hc4406 : (gN_ σ3473 208) < gN_ σ4348 208 := by rw [e4349]; exact hc4340
  have hc4407 : (gN_ σ3592 209) < gN_ σ4348 209 := by rw [e4349]; exact hc4341
  have hc4408 : (gN_ σ3713 210) < gN_ σ4348 210 := by rw [e4349]; exact hc4342
  have hc4409 : (gN_ σ3836 211) < gN_ σ4348 211 := by rw [e4349]; exact hc4343
  have hc4410 : (gN_ σ3961 212) < gN_ σ4348 212 := by rw [e4349]; exact hc4344
  have hc4411 : (gN_ σ4088 213) < gN_ σ4348 213 := by rw [e4349]; exact hc4345
  have hc4412 : (gN_ σ4217 214) < gN_ σ4348 214 := by rw [e4349]; exact hc4346
  refine lv_aload_n hx hb dX10_init_505 rfl (lv_at hl 0 rfl) ?_
  refine lv_bipush (v := 64) hx hb dX10_init_506 (by decide) ?_
  have hp4413 : pr σ4348 109 0 := (pr_dy hc4350 rfl rfl)
  obtain ⟨σ4414, e4415, hs⟩ := ww_let hs
  obtain ⟨hs, hck⟩ := ww_ck1 hs
  have hrm1 := hcs.room (σ1 := σ4414) (a := 1) (b := 64) (by rw [e4415]; rfl) (by rw [e4415]; rfl) hck
  refine ww_newa (atype := .int) hx hb (hts _ q201) hW 215 0 64 (Or.inl rfl) sole_215 (Or.inr hgm) rfl rfl rfl (by decide) rfl (Nat.le_of_ble_eq_true rfl) hrm1.1 hrm1.2 dX10_init_508 (fun H L hx1 hW => ?_)
  rw [← e4415] at hx1 hW
  have hcs := hcs.more (σ1 := σ4414) (a := 1) (b := 64) (by rw [e4415]; rfl) (by rw [e4415]; rfl)
  have hrm := hrm1
  have hc4416 : 0 < gN_ σ4414 109 := Nat.lt_of_lt_of_le hc4350 (hx1.2.1 109)
  have hc4417 : (gN_ σ 112) < gN_ σ4414 112 := Nat.lt_of_lt_of_le hc4351 (hx1.2.1 112)
  have hc4418 : (gN_ σ17 113) < gN_ σ4414 113 := Nat.lt_of_lt_of_le hc4352 (hx1.2.1 113)
  have hc4419 : (gN_ σ28 114) < gN_ σ4414 114 := Nat.lt_of_lt_of_le hc4353 (hx1.2.1 114)
  have hc4420 : (gN_ σ41 115) < gN_ σ4414 115 := Nat.lt_of_lt_of_le hc4354 (hx1.2.1 115)
  have hc4421 : (gN_ σ56 116) < gN_ σ4414 116 := Nat.lt_of_lt_of_le hc4355 (hx1.2.1 116)
  have hc4422 : (gN_ σ73 117) < gN_ σ4414 117 := Nat.lt_of_lt_of_le hc4356 (hx1.2.1 117)
  have hc4423 : (gN_ σ92 118) < gN_ σ4414 118 := Nat.lt_of_lt_of_le hc4357 (hx1.2.1 118)
  have hc4424 : (gN_ σ113 119) < gN_ σ4414 119 := Nat.lt_of_lt_of_le hc4358 (hx1.2.1 119)
  have hc4425 : (gN_ σ136 127) < gN_ σ4414 127 := Nat.lt_of_lt_of_le hc4359 (hx1.2.1 127)
  have hc4426 : (gN_ σ161 128) < gN_ σ4414 128 := Nat.lt_of_lt_of_le hc4360 (hx1.2.1 128)
  have hc4427 : (gN_ σ188 129) < gN_ σ4414 129 := Nat.lt_of_lt_of_le hc4361 (hx1.2.1 129)
  have hc4428 : (gN_ σ217 130) < gN_ σ4414 130 := Nat.lt_of_lt_of_le hc4362 (hx1.2.1 130)
  have hc4429 : (gN_ σ248 131) < gN_ σ4414 131 := Nat.lt_of_lt_of_le hc4363 (hx1.2.1 131)
  have hc4430 : (gN_ σ281 137) < gN_ σ4414 137 := Nat.lt_of_lt_of_le hc4364 (hx1.2.1 137)
  have hc4431 : (gN_ σ316 138) < gN_ σ4414 138 := Nat.lt_of_lt_of_le hc4365 (hx1.2.1 138)
  have hc4432 : (gN_ σ353 145) < gN_ σ4414 145 := Nat.lt_of_lt_of_le hc4366 (hx1.2.1 145)
  have hc4433 : (gN_ σ392 146) < gN_ σ4414 146 := Nat.lt_of_lt_of_le hc4367 (hx1.2.1 146)
  have hc4434 : (gN_ σ433 147) < gN_ σ4414 147 := Nat.lt_of_lt_of_le hc4368 (hx1.2.1 147)
  have hc4435 : (gN_ σ476 148) < gN_ σ4414 148 := Nat.lt_of_lt_of_le hc4369 (hx1.2.1 148)
  have hc4436 : (gN_ σ521 150) < gN_ σ4414 150 := Nat.lt_of_lt_of_le hc4370 (hx1.2.1 150)
  have hc4437 : (gN_ σ568 151) < gN_ σ4414 151 := Nat.lt_of_lt_of_le hc4371 (hx1.2.1 151)
  have hc4438 : (gN_ σ617 152) < gN_ σ4414 152 := Nat.lt_of_lt_of_le hc4372 (hx1.2.1 152)
  have hc4439 : (gN_ σ668 153) < gN_ σ4414 153 := Nat.lt_of_lt_of_le hc4373 (hx1.2.1 153)
  have hc4440 : (gN_ σ721 154) < gN_ σ4414 154 := Nat.lt_of_lt_of_le hc4374 (hx1.2.1 154)
  have hc4441 : (gN_ σ776 155) < gN_ σ4414 155 := Nat.lt_of_lt_of_le hc4375 (hx1.2.1 155)
  have hc4442 : (gN_ σ833 156) < gN_ σ4414 156 := Nat.lt_of_lt_of_le hc4376 (hx1.2.1 156)
  have hc4443 : (gN_ σ892 157) < gN_ σ4414 157 := Nat.lt_of_lt_of_le hc4377 (hx1.2.1 157)
  have hc4444 : (gN_ σ953 158) < gN_ σ4414 158 := Nat.lt_of_lt_of_le hc4378 (hx1.2.1 158)
  have hc4445 : (gN_ σ1016 163) < gN_ σ4414 163 := Nat.lt_of_lt_of_le hc4379 (hx1.2.1 163)
  have hc4446 : (gN_ σ1081 164) < gN_ σ4414 164 := Nat.lt_of_lt_of_le hc4380 (hx1.2.1 164)
  have hc4447 : (gN_ σ1148 165) < gN_ σ4414 165 := Nat.lt_of_lt_of_le hc4381 (hx1.2.1 165)
  have hc4448 : (gN_ σ1217 166) < gN_ σ4414 166 := Nat.lt_of_lt_of_le hc4382 (hx1.2.1 166)
  have hc4449 : (gN_ σ1288 171) < gN_ σ4414 171 := Nat.lt_of_lt_of_le hc4383 (hx1.2.1 171)
  have hc4450 : (gN_ σ1361 175) < gN_ σ4414 175 := Nat.lt_of_lt_of_le hc4384 (hx1.2.1 175)
  have hc4451 : (gN_ σ1436 176) < gN_ σ4414 176 := Nat.lt_of_lt_of_le hc4385 (hx1.2.1 176)
  have hc4452 : (gN_ σ1513 177) < gN_ σ4414 177 := Nat.lt_of_lt_of_le hc4386 (hx1.2.1 177)
  have hc4453 : (gN_ σ1592 178) < gN_ σ4414 178 := Nat.lt_of_lt_of_le hc4387 (hx1.2.1 178)
  have hc4454 : (gN_ σ1673 179) < gN_ σ4414 179 := Nat.lt_of_lt_of_le hc4388 (hx1.2.1 179)
  have hc4455 : (gN_ σ1756 182) < gN_ σ4414 182 := Nat.lt_of_lt_of_le hc4389 (hx1.2.1 182)
  have hc4456 : (gN_ σ1841 187) < gN_ σ4414 187 := Nat.lt_of_lt_of_le hc4390 (hx1.2.1 187)
  have hc4457 : (gN_ σ1928 188) < gN_ σ4414 188 := Nat.lt_of_lt_of_le hc4391 (hx1.2.1 188)
  have hc4458 : (gN_ σ2017 189) < gN_ σ4414 189 := Nat.lt_of_lt_of_le hc4392 (hx1.2.1 189)
  have hc4459 : (gN_ σ2108 190) < gN_ σ4414 190 := Nat.lt_of_lt_of_le hc4393 (hx1.2.1 190)
  have hc4460 : (gN_ σ2201 193) < gN_ σ4414 193 := Nat.lt_of_lt_of_le hc4394 (hx1.2.1 193)
  have hc4461 : (gN_ σ2296 194) < gN_ σ4414 194 := Nat.lt_of_lt_of_le hc4395 (hx1.2.1 194)
  have hc4462 : (gN_ σ2393 195) < gN_ σ4414 195 := Nat.lt_of_lt_of_le hc4396 (hx1.2.1 195)
  have hc4463 : (gN_ σ2492 196) < gN_ σ4414 196 := Nat.lt_of_lt_of_le hc4397 (hx1.2.1 196)
  have hc4464 : (gN_ σ2593 197) < gN_ σ4414 197 := Nat.lt_of_lt_of_le hc4398 (hx1.2.1 197)
  have hc4465 : (gN_ σ2696 198) < gN_ σ4414 198 := Nat.lt_of_lt_of_le hc4399 (hx1.2.1 198)
  have hc4466 : (gN_ σ2801 199) < gN_ σ4414 199 := Nat.lt_of_lt_of_le hc4400 (hx1.2.1 199)
  have hc4467 : (gN_ σ2908 200) < gN_ σ4414 200 := Nat.lt_of_lt_of_le hc4401 (hx1.2.1 200)
  have hc4468 : (gN_ σ3017 201) < gN_ σ4414 201 := Nat.lt_of_lt_of_le hc4402 (hx1.2.1 201)
  have hc4469 : (gN_ σ3128 202) < gN_ σ4414 202 := Nat.lt_of_lt_of_le hc4403 (hx1.2.1 202)
  have hc4470 : (gN_ σ3241 206) < gN_ σ4414 206 := Nat.lt_of_lt_of_le hc4404 (hx1.2.1 206)
  have hc4471 : (gN_ σ3356 207) < gN_ σ4414 207 := Nat.lt_of_lt_of_le hc4405 (hx1.2.1 207)
  have hc4472 : (gN_ σ3473 208) < gN_ σ4414 208 := Nat.lt_of_lt_of_le hc4406 (hx1.2.1 208)
  have hc4473 : (gN_ σ3592 209) < gN_ σ4414 209 := Nat.lt_of_lt_of_le hc4407 (hx1.2.1 209)
  have hc4474 : (gN_ σ3713 210) < gN_ σ4414 210 := Nat.lt_of_lt_of_le hc4408 (hx1.2.1 210)
  have hc4475 : (gN_ σ3836 211) < gN_ σ4414 211 := Nat.lt_of_lt_of_le hc4409 (hx1.2.1 211)
  have hc4476 : (gN_ σ3961 212) < gN_ σ4414 212 := Nat.lt_of_lt_of_le hc4410 (hx1.2.1 212)
  have hc4477 : (gN_ σ4088 213) < gN_ σ4414 213 := Nat.lt_of_lt_of_le hc4411 (hx1.2.1 213)
  have hc4478 : (gN_ σ4217 214) < gN_ σ4414 214 := Nat.lt_of_lt_of_le hc4412 (hx1.2.1 214)
  have hc4479 : gN_ σ4348 215 < gN_ σ4414 215 := by rw [e4415]; exact nA_lt rfl
  rw [show ow_ 215 = 215 from rfl]
  have hl : lv_has ls 2 [(0, .ref (L 109 0))] := by rw [hx1.at hp4413 (by decide)]; exact hl
  refine ww_stk (st1 := [.ref (L 215 (gN_ σ4348 215)), .ref (L 109 0)]) (by rw [hx1.at hp4413 (by decide)]) ?_
  have hx0 := hx0.trans hx1
  obtain ⟨hc4480, hs⟩ := ww_chk hs
  have hpq : pr σ4414 215 (gN_ σ4348 215) := (pr_dy hc4479 rfl rfl)
  rw [hc4480] at hpq
  obtain ⟨σ4481, e4482, hs⟩ := ww_let hs
  refine ww_markF (d := (1, 215, 0)) hx hb hts hown (hnm.trans rfl) hW 109 0 105 0 (pr_dy hc4416 rfl rfl) (tgd_1 hpq) (obv_0 rfl) rfl (by decide) (Nat.le_of_ble_eq_true rfl) in_X10 tyX10_ok nmX10 rfl (Nat.le_of_ble_eq_true rfl) (hts _ q1798) (fun _ h => h) rfl rfl rfl (fun _ => rfl) (fun _ => rfl) (by rw [hc4480]; rfl) dX10_init_510 (fun H locs hW => ?_)
  have hW : wv g L σ4481 s H locs := by rw [e4482]; exact hW
  obtain ⟨hx0, hcs⟩ := lx_s (σ1 := σ4481) hx0 hcs (by rw [e4482]; exact (kp_M (by decide)))
  have hc4483 : 0 < gN_ σ4481 109 := by rw [e4482]; exact hc4416
  have hc4484 : (gN_ σ 112) < gN_ σ4481 112 := by rw [e4482]; exact hc4417
  have hc4485 : (gN_ σ17 113) < gN_ σ4481 113 := by rw [e4482]; exact hc4418
  have hc4486 : (gN_ σ28 114) < gN_ σ4481 114 := by rw [e4482]; exact hc4419
  have hc4487 : (gN_ σ41 115) < gN_ σ4481 115 := by rw [e4482]; exact hc4420
  have hc4488 : (gN_ σ56 116) < gN_ σ4481 116 := by rw [e4482]; exact hc4421
  have hc4489 : (gN_ σ73 117) < gN_ σ4481 117 := by rw [e4482]; exact hc4422
  have hc4490 : (gN_ σ92 118) < gN_ σ4481 118 := by rw [e4482]; exact hc4423
  have hc4491 : (gN_ σ113 119) < gN_ σ4481 119 := by rw [e4482]; exact hc4424
  have hc4492 : (gN_ σ136 127) < gN_ σ4481 127 := by rw [e4482]; exact hc4425
  have hc4493 : (gN_ σ161 128) < gN_ σ4481 128 := by rw [e4482]; exact hc4426
  have hc4494 : (gN_ σ188 129) < gN_ σ4481 129 := by rw [e4482]; exact hc4427
  have hc4495 : (gN_ σ217 130) < gN_ σ4481 130 := by rw [e4482]; exact hc4428
  have hc4496 : (gN_ σ248 131) < gN_ σ4481 131 := by rw [e4482]; exact hc4429
  have hc4497 : (gN_ σ281 137) < gN_ σ4481 137 := by rw [e4482]; exact hc4430
  have hc4498 : (gN_ σ316 138) < gN_ σ4481 138 := by rw [e4482]; exact hc4431
  have hc4499 : (gN_ σ353 145) < gN_ σ4481 145 := by rw [e4482]; exact hc4432
  have hc4500 : (gN_ σ392 146) < gN_ σ4481 146 := by rw [e4482]; exact hc4433
  have hc4501 : (gN_ σ433 147) < gN_ σ4481 147 := by rw [e4482]; exact hc4434
  have hc4502 : (gN_ σ476 148) < gN_ σ4481 148 := by rw [e4482]; exact hc4435
  have hc4503 : (gN_ σ521 150) < gN_ σ4481 150 := by rw [e4482]; exact hc4436
  have hc4504 : (gN_ σ568 151) < gN_ σ4481 151 := by rw [e4482]; exact hc4437
  have hc4505 : (gN_ σ617 152) < gN_ σ4481 152 := by rw [e4482]; exact hc4438
  have hc4506 : (gN_ σ668 153) < gN_ σ4481 153 := by rw [e4482]; exact hc4439
  have hc4507 : (gN_ σ721 154) < gN_ σ4481 154 := by rw [e4482]; exact hc4440
  have hc4508 : (gN_ σ776 155) < gN_ σ4481 155 := by rw [e4482]; exact hc4441
  have hc4509 : (gN_ σ833 156) < gN_ σ4481 156 := by rw [e4482]; exact hc4442
  have hc4510 : (gN_ σ892 157) < gN_ σ4481 157 := by rw [e4482]; exact hc4443
  have hc4511 : (gN_ σ953 158) < gN_ σ4481 158 := by rw [e4482]; exact hc4444
  have hc4512 : (gN_ σ1016 163) < gN_ σ4481 163 := by rw [e4482]; exact hc4445
  have hc4513 : (gN_ σ1081 164) < gN_ σ4481 164 := by rw [e4482]; exact hc4446
  have hc4514 : (gN_ σ1148 165) < gN_ σ4481 165 := by rw [e4482]; exact hc4447
  have hc4515 : (gN_ σ1217 166) < gN_ σ4481 166 := by rw [e4482]; exact hc4448
  have hc4516 : (gN_ σ1288 171) < gN_ σ4481 171 := by rw [e4482]; exact hc4449
  have hc4517 : (gN_ σ1361 175) < gN_ σ4481 175 := by rw [e4482]; exact hc4450
  have hc4518 : (gN_ σ1436 176) < gN_ σ4481 176 := by rw [e4482]; exact hc4451
  have hc4519 : (gN_ σ1513 177) < gN_ σ4481 177 := by rw [e4482]; exact hc4452
  have hc4520 : (gN_ σ1592 178) < gN_ σ4481 178 := by rw [e4482]; exact hc4453
  have hc4521 : (gN_ σ1673 179) < gN_ σ4481 179 := by rw [e4482]; exact hc4454
  have hc4522 : (gN_ σ1756 182) < gN_ σ4481 182 := by rw [e4482]; exact hc4455
  have hc4523 : (gN_ σ1841 187) < gN_ σ4481 187 := by rw [e4482]; exact hc4456
  have hc4524 : (gN_ σ1928 188) < gN_ σ4481 188 := by rw [e4482]; exact hc4457
  have hc4525 : (gN_ σ2017 189) < gN_ σ4481 189 := by rw [e4482]; exact hc4458
  have hc4526 : (gN_ σ2108 190) < gN_ σ4481 190 := by rw [e4482]; exact hc4459
  have hc4527 : (gN_ σ2201 193) < gN_ σ4481 193 := by rw [e4482]; exact hc4460
  have hc4528 : (gN_ σ2296 194) < gN_ σ4481 194 := by rw [e4482]; exact hc4461
  have hc4529 : (gN_ σ2393 195) < gN_ σ4481 195 := by rw [e4482]; exact hc4462
  have hc4530 : (gN_ σ2492 196) < gN_ σ4481 196 := by rw [e4482]; exact hc4463
  have hc4531 : (gN_ σ2593 197) < gN_ σ4481 197 := by rw [e4482]; exact hc4464
  have hc4532 : (gN_ σ2696 198) < gN_ σ4481 198 := by rw [e4482]; exact hc4465
  have hc4533 : (gN_ σ2801 199) < gN_ σ4481 199 := by rw [e4482]; exact hc4466
  have hc4534 : (gN_ σ2908 200) < gN_ σ4481 200 := by rw [e4482]; exact hc4467
  have hc4535 : (gN_ σ3017 201) < gN_ σ4481 201 := by rw [e4482]; exact hc4468
  have hc4536 : (gN_ σ3128 202) < gN_ σ4481 202 := by rw [e4482]; exact hc4469
  have hc4537 : (gN_ σ3241 206) < gN_ σ4481 206 := by rw [e4482]; exact hc4470
  have hc4538 : (gN_ σ3356 207) < gN_ σ4481 207 := by rw [e4482]; exact hc4471
  have hc4539 : (gN_ σ3473 208) < gN_ σ4481 208 := by rw [e4482]; exact hc4472
  have hc4540 : (gN_ σ3592 209) < gN_ σ4481 209 := by rw [e4482]; exact hc4473
  have hc4541 : (gN_ σ3713 210) < gN_ σ4481 210 := by rw [e4482]; exact hc4474
  have hc4542 : (gN_ σ3836 211) < gN_ σ4481 211 := by rw [e4482]; exact hc4475
  have hc4543 : (gN_ σ3961 212) < gN_ σ4481 212 := by rw [e4482]; exact hc4476
  have hc4544 : (gN_ σ4088 213) < gN_ σ4481 213 := by rw [e4482]; exact hc4477
  have hc4545 : (gN_ σ4217 214) < gN_ σ4481 214 := by rw [e4482]; exact hc4478
  have hc4546 : (gN_ σ4348 215) < gN_ σ4481 215 := by rw [e4482]; exact hc4479
  refine lv_aload_n hx hb dX10_init_513 rfl (lv_at hl 0 rfl) ?_
  refine lv_bipush (v := 64) hx hb dX10_init_514 (by decide) ?_
  have hp4547 : pr σ4481 109 0 := (pr_dy hc4483 rfl rfl)
  obtain ⟨σ4548, e4549, hs⟩ := ww_let hs
  obtain ⟨hs, hck⟩ := ww_ck1 hs
  have hrm1 := hcs.room (σ1 := σ4548) (a := 1) (b := 64) (by rw [e4549]; rfl) (by rw [e4549]; rfl) hck
  refine ww_newa (atype := .int) hx hb (hts _ q201) hW 216 0 64 (Or.inl rfl) sole_216 (Or.inr hgm) rfl rfl rfl (by decide) rfl (Nat.le_of_ble_eq_true rfl) hrm1.1 hrm1.2 dX10_init_516 (fun H L hx1 hW => ?_)
  rw [← e4549] at hx1 hW
  have hcs := hcs.more (σ1 := σ4548) (a := 1) (b := 64) (by rw [e4549]; rfl) (by rw [e4549]; rfl)
  have hrm := hrm1
  have hc4550 : 0 < gN_ σ4548 109 := Nat.lt_of_lt_of_le hc4483 (hx1.2.1 109)
  have hc4551 : (gN_ σ 112) < gN_ σ4548 112 := Nat.lt_of_lt_of_le hc4484 (hx1.2.1 112)
  have hc4552 : (gN_ σ17 113) < gN_ σ4548 113 := Nat.lt_of_lt_of_le hc4485 (hx1.2.1 113)
  have hc4553 : (gN_ σ28 114) < gN_ σ4548 114 := Nat.lt_of_lt_of_le hc4486 (hx1.2.1 114)
  have hc4554 : (gN_ σ41 115) < gN_ σ4548 115 := Nat.lt_of_lt_of_le hc4487 (hx1.2.1 115)
  have hc4555 : (gN_ σ56 116) < gN_ σ4548 116 := Nat.lt_of_lt_of_le hc4488 (hx1.2.1 116)
  have hc4556 : (gN_ σ73 117) < gN_ σ4548 117 := Nat.lt_of_lt_of_le hc4489 (hx1.2.1 117)
  have hc4557 : (gN_ σ92 118) < gN_ σ4548 118 := Nat.lt_of_lt_of_le hc4490 (hx1.2.1 118)
  have hc4558 : (gN_ σ113 119) < gN_ σ4548 119 := Nat.lt_of_lt_of_le hc4491 (hx1.2.1 119)
  have hc4559 : (gN_ σ136 127) < gN_ σ4548 127 := Nat.lt_of_lt_of_le hc4492 (hx1.2.1 127)
  have hc4560 : (gN_ σ161 128) < gN_ σ4548 128 := Nat.lt_of_lt_of_le hc4493 (hx1.2.1 128)
  have hc4561 : (gN_ σ188 129) < gN_ σ4548 129 := Nat.lt_of_lt_of_le hc4494 (hx1.2.1 129)
  have hc4562 : (gN_ σ217 130) < gN_ σ4548 130 := Nat.lt_of_lt_of_le hc4495 (hx1.2.1 130)
  have hc4563 : (gN_ σ248 131) < gN_ σ4548 131 := Nat.lt_of_lt_of_le hc4496 (hx1.2.1 131)
  have hc4564 : (gN_ σ281 137) < gN_ σ4548 137 := Nat.lt_of_lt_of_le hc4497 (hx1.2.1 137)
  have hc4565 : (gN_ σ316 138) < gN_ σ4548 138 := Nat.lt_of_lt_of_le hc4498 (hx1.2.1 138)
  have hc4566 : (gN_ σ353 145) < gN_ σ4548 145 := Nat.lt_of_lt_of_le hc4499 (hx1.2.1 145)
  have hc4567 : (gN_ σ392 146) < gN_ σ4548 146 := Nat.lt_of_lt_of_le hc4500 (hx1.2.1 146)
  have hc4568 : (gN_ σ433 147) < gN_ σ4548 147 := Nat.lt_of_lt_of_le hc4501 (hx1.2.1 147)
  have hc4569 : (gN_ σ476 148) < gN_ σ4548 148 := Nat.lt_of_lt_of_le hc4502 (hx1.2.1 148)
  have hc4570 : (gN_ σ521 150) < gN_ σ4548 150 := Nat.lt_of_lt_of_le hc4503 (hx1.2.1 150)
  have hc4571 : (gN_ σ568 151) < gN_ σ4548 151 := Nat.lt_of_lt_of_le hc4504 (hx1.2.1 151)
  have hc4572 : (gN_ σ617 152) < gN_ σ4548 152 := Nat.lt_of_lt_of_le hc4505 (hx1.2.1 152)
  have hc4573 : (gN_ σ668 153) < gN_ σ4548 153 := Nat.lt_of_lt_of_le hc4506 (hx1.2.1 153)
  have hc4574 : (gN_ σ721 154) < gN_ σ4548 154 := Nat.lt_of_lt_of_le hc4507 (hx1.2.1 154)
  have hc4575 : (gN_ σ776 155) < gN_ σ4548 155 := Nat.lt_of_lt_of_le hc4508 (hx1.2.1 155)
  have hc4576 : (gN_ σ833 156) < gN_ σ4548 156 := Nat.lt_of_lt_of_le hc4509 (hx1.2.1 156)
  have hc4577 : (gN_ σ892 157) < gN_ σ4548 157 := Nat.lt_of_lt_of_le hc4510 (hx1.2.1 157)
  have hc4578 : (gN_ σ953 158) < gN_ σ4548 158 := Nat.lt_of_lt_of_le hc4511 (hx1.2.1 158)
  have hc4579 : (gN_ σ1016 163) < gN_ σ4548 163 := Nat.lt_of_lt_of_le hc4512 (hx1.2.1 163)
  have hc4580 : (gN_ σ1081 164) < gN_ σ4548 164 := Nat.lt_of_lt_of_le hc4513 (hx1.2.1 164)
  have hc4581 : (gN_ σ1148 165) < gN_ σ4548 165 := Nat.lt_of_lt_of_le hc4514 (hx1.2.1 165)
  have hc4582 : (gN_ σ1217 166) < gN_ σ4548 166 := Nat.lt_of_lt_of_le hc4515 (hx1.2.1 166)
  have hc4583 : (gN_ σ1288 171) < gN_ σ4548 171 := Nat.lt_of_lt_of_le hc4516 (hx1.2.1 171)
  have hc4584 : (gN_ σ1361 175) < gN_ σ4548 175 := Nat.lt_of_lt_of_le hc4517 (hx1.2.1 175)
  have hc4585 : (gN_ σ1436 176) < gN_ σ4548 176 := Nat.lt_of_lt_of_le hc4518 (hx1.2.1 176)
  have hc4586 : (gN_ σ1513 177) < gN_ σ4548 177 := Nat.lt_of_lt_of_le hc4519 (hx1.2.1 177)
  have hc4587 : (gN_ σ1592 178) < gN_ σ4548 178 := Nat.lt_of_lt_of_le hc4520 (hx1.2.1 178)
  have hc4588 : (gN_ σ1673 179) < gN_ σ4548 179 := Nat.lt_of_lt_of_le hc4521 (hx1.2.1 179)
  have hc4589 : (gN_ σ1756 182) < gN_ σ4548 182 := Nat.lt_of_lt_of_le hc4522 (hx1.2.1 182)
  have hc4590 : (gN_ σ1841 187) < gN_ σ4548 187 := Nat.lt_of_lt_of_le hc4523 (hx1.2.1 187)
  have hc4591 : (gN_ σ1928 188) < gN_ σ4548 188 := Nat.lt_of_lt_of_le hc4524 (hx1.2.1 188)
  have hc4592 : (gN_ σ2017 189) < gN_ σ4548 189 := Nat.lt_of_lt_of_le hc4525 (hx1.2.1 189)
  have hc4593 : (gN_ σ2108 190) < gN_ σ4548 190 := Nat.lt_of_lt_of_le hc4526 (hx1.2.1 190)
  have hc4594 : (gN_ σ2201 193) < gN_ σ4548 193 := Nat.lt_of_lt_of_le hc4527 (hx1.2.1 193)
  have hc4595 : (gN_ σ2296 194) < gN_ σ4548 194 := Nat.lt_of_lt_of_le hc4528 (hx1.2.1 194)
  have hc4596 : (gN_ σ2393 195) < gN_ σ4548 195 := Nat.lt_of_lt_of_le hc4529 (hx1.2.1 195)
  have hc4597 : (gN_ σ2492 196) < gN_ σ4548 196 := Nat.lt_of_lt_of_le hc4530 (hx1.2.1 196)
  have hc4598 : (gN_ σ2593 197) < gN_ σ4548 197 := Nat.lt_of_lt_of_le hc4531 (hx1.2.1 197)
  have hc4599 : (gN_ σ2696 198) < gN_ σ4548 198 := Nat.lt_of_lt_of_le hc4532 (hx1.2.1 198)
  have hc4600 : (gN_ σ2801 199) < gN_ σ4548 199 := Nat.lt_of_lt_of_le hc4533 (hx1.2.1 199)
  have hc4601 : (gN_ σ2908 200) < gN_ σ4548 200 := Nat.lt_of_lt_of_le hc4534 (hx1.2.1 200)
  have hc4602 : (gN_ σ3017 201) < gN_ σ4548 201 := Nat.lt_of_lt_of_le hc4535 (hx1.2.1 201)
  have hc4603 : (gN_ σ3128 202) < gN_ σ4548 202 := Nat.lt_of_lt_of_le hc4536 (hx1.2.1 202)
  have hc4604 : (gN_ σ3241 206) < gN_ σ4548 206 := Nat.lt_of_lt_of_le hc4537 (hx1.2.1 206)
  have hc4605 : (gN_ σ3356 207) < gN_ σ4548 207 := Nat.lt_of_lt_of_le hc4538 (hx1.2.1 207)
  have hc4606 : (gN_ σ3473 208) < gN_ σ4548 208 := Nat.lt_of_lt_of_le hc4539 (hx1.2.1 208)
  have hc4607 : (gN_ σ3592 209) < gN_ σ4548 209 := Nat.lt_of_lt_of_le hc4540 (hx1.2.1 209)
  have hc4608 : (gN_ σ3713 210) < gN_ σ4548 210 := Nat.lt_of_lt_of_le hc4541 (hx1.2.1 210)
  have hc4609 : (gN_ σ3836 211) < gN_ σ4548 211 := Nat.lt_of_lt_of_le hc4542 (hx1.2.1 211)
  have hc4610 : (gN_ σ3961 212) < gN_ σ4548 212 := Nat.lt_of_lt_of_le hc4543 (hx1.2.1 212)
  have hc4611 : (gN_ σ4088 213) < gN_ σ4548 213 := Nat.lt_of_lt_of_le hc4544 (hx1.2.1 213)
  have hc4612 : (gN_ σ4217 214) < gN_ σ4548 214 := Nat.lt_of_lt_of_le hc4545 (hx1.2.1 214)
  have hc4613 : (gN_ σ4348 215) < gN_ σ4548 215 := Nat.lt_of_lt_of_le hc4546 (hx1.2.1 215)
  have hc4614 : gN_ σ4481 216 < gN_ σ4548 216 := by rw [e4549]; exact nA_lt rfl
  rw [show ow_ 216 = 216 from rfl]
  have hl : lv_has ls 2 [(0, .ref (L 109 0))] := by rw [hx1.at hp4547 (by decide)]; exact hl
  refine ww_stk (st1 := [.ref (L 216 (gN_ σ4481 216)), .ref (L 109 0)]) (by rw [hx1.at hp4547 (by decide)]) ?_
  have hx0 := hx0.trans hx1
  obtain ⟨hc4615, hs⟩ := ww_chk hs
  have hpq : pr σ4548 216 (gN_ σ4481 216) := (pr_dy hc4614 rfl rfl)
  rw [hc4615] at hpq
  obtain ⟨σ4616, e4617, hs⟩ := ww_let hs
  refine ww_markF (d := (1, 216, 0)) hx hb hts hown (hnm.trans rfl) hW 109 0 106 0 (pr_dy hc4550 rfl rfl) (tgd_1 hpq) (obv_0 rfl) rfl (by decide) (Nat.le_of_ble_eq_true rfl) in_X10 tyX10_ok nmX10 rfl (Nat.le_of_ble_eq_true rfl) (hts _ q1799) (fun _ h => h) rfl rfl rfl (fun _ => rfl) (fun _ => rfl) (by rw [hc4615]; rfl) dX10_init_518 (fun H locs hW => ?_)
  have hW : wv g L σ4616 s H locs := by rw [e4617]; exact hW
  obtain ⟨hx0, hcs⟩ := lx_s (σ1 := σ4616) hx0 hcs (by rw [e4617]; exact (kp_M (by decide)))
  have hc4618 : 0 < gN_ σ4616 109 := by rw [e4617]; exact hc4550
  have hc4619 : (gN_ σ 112) < gN_ σ4616 112 := by rw [e4617]; exact hc4551
  have hc4620 : (gN_ σ17 113) < gN_ σ4616 113 := by rw [e4617]; exact hc4552
  have hc4621 : (gN_ σ28 114) < gN_ σ4616 114 := by rw [e4617]; exact hc4553
  have hc4622 : (gN_ σ41 115) < gN_ σ4616 115 := by rw [e4617]; exact hc4554
  have hc4623 : (gN_ σ56 116) < gN_ σ4616 116 := by rw [e4617]; exact hc4555
  have hc4624 : (gN_ σ73 117) < gN_ σ4616 117 := by rw [e4617]; exact hc4556
  have hc4625 : (gN_ σ92 118) < gN_ σ4616 118 := by rw [e4617]; exact hc4557
  have hc4626 : (gN_ σ113 119) < gN_ σ4616 119 := by rw [e4617]; exact hc4558
  have hc4627 : (gN_ σ136 127) < gN_ σ4616 127 := by rw [e4617]; exact hc4559
  have hc4628 : (gN_ σ161 128) < gN_ σ4616 128 := by rw [e4617]; exact hc4560
  have hc4629 : (gN_ σ188 129) < gN_ σ4616 129 := by rw [e4617]; exact hc4561
  have hc4630 : (gN_ σ217 130) < gN_ σ4616 130 := by rw [e4617]; exact hc4562
  have hc4631 : (gN_ σ248 131) < gN_ σ4616 131 := by rw [e4617]; exact hc4563
  have hc4632 : (gN_ σ281 137) < gN_ σ4616 137 := by rw [e4617]; exact hc4564
  have hc4633 : (gN_ σ316 138) < gN_ σ4616 138 := by rw [e4617]; exact hc4565
  have hc4634 : (gN_ σ353 145) < gN_ σ4616 145 := by rw [e4617]; exact hc4566
  have hc4635 : (gN_ σ392 146) < gN_ σ4616 146 := by rw [e4617]; exact hc4567
  have hc4636 : (gN_ σ433 147) < gN_ σ4616 147 := by rw [e4617]; exact hc4568
  have hc4637 : (gN_ σ476 148) < gN_ σ4616 148 := by rw [e4617]; exact hc4569
  have hc4638 : (gN_ σ521 150) < gN_ σ4616 150 := by rw [e4617]; exact hc4570
  have hc4639 : (gN_ σ568 151) < gN_ σ4616 151 := by rw [e4617]; exact hc4571
  have hc4640 : (gN_ σ617 152) < gN_ σ4616 152 := by rw [e4617]; exact hc4572
  have hc4641 : (gN_ σ668 153) < gN_ σ4616 153 := by rw [e4617]; exact hc4573
  have hc4642 : (gN_ σ721 154) < gN_ σ4616 154 := by rw [e4617]; exact hc4574
  have hc4643 : (gN_ σ776 155) < gN_ σ4616 155 := by rw [e4617]; exact hc4575
  have hc4644 : (gN_ σ833 156) < gN_ σ4616 156 := by rw [e4617]; exact hc4576
  have hc4645 : (gN_ σ892 157) < gN_ σ4616 157 := by rw [e4617]; exact hc4577
  have hc4646 : (gN_ σ953 158) < gN_ σ4616 158 := by rw [e4617]; exact hc4578
  have hc4647 : (gN_ σ1016 163) < gN_ σ4616 163 := by rw [e4617]; exact hc4579
  have hc4648 : (gN_ σ1081 164) < gN_ σ4616 164 := by rw [e4617]; exact hc4580
  have hc4649 : (gN_ σ1148 165) < gN_ σ4616 165 := by rw [e4617]; exact hc4581
  have hc4650 : (gN_ σ1217 166) < gN_ σ4616 166 := by rw [e4617]; exact hc4582
  have hc4651 : (gN_ σ1288 171) < gN_ σ4616 171 := by rw [e4617]; exact hc4583
  have hc4652 : (gN_ σ1361 175) < gN_ σ4616 175 := by rw [e4617]; exact hc4584
  have hc4653 : (gN_ σ1436 176) < gN_ σ4616 176 := by rw [e4617]; exact hc4585
  have hc4654 : (gN_ σ1513 177) < gN_ σ4616 177 := by rw [e4617]; exact hc4586
  have hc4655 : (gN_ σ1592 178) < gN_ σ4616 178 := by rw [e4617]; exact hc4587
  have hc4656 : (gN_ σ1673 179) < gN_ σ4616 179 := by rw [e4617]; exact hc4588
  have hc4657 : (gN_ σ1756 182) < gN_ σ4616 182 := by rw [e4617]; exact hc4589
  have hc4658 : (gN_ σ1841 187) < gN_ σ4616 187 := by rw [e4617]; exact hc4590
  have hc4659 : (gN_ σ1928 188) < gN_ σ4616 188 := by rw [e4617]; exact hc4591
  have hc4660 : (gN_ σ2017 189) < gN_ σ4616 189 := by rw [e4617]; exact hc4592
  have hc4661 : (gN_ σ2108 190) < gN_ σ4616 190 := by rw [e4617]; exact hc4593
  have hc4662 : (gN_ σ2201 193) < gN_ σ4616 193 := by rw [e4617]; exact hc4594
  have hc4663 : (gN_ σ2296 194) < gN_ σ4616 194 := by rw [e4617]; exact hc4595
  have hc4664 : (gN_ σ2393 195) < gN_ σ4616 195 := by rw [e4617]; exact hc4596
  have hc4665 : (gN_ σ2492 196) < gN_ σ4616 196 := by rw [e4617]; exact hc4597
  have hc4666 : (gN_ σ2593 197) < gN_ σ4616 197 := by rw [e4617]; exact hc4598
  have hc4667 : (gN_ σ2696 198) < gN_ σ4616 198 := by rw [e4617]; exact hc4599
  have hc4668 : (gN_ σ2801 199) < gN_ σ4616 199 := by rw [e4617]; exact hc4600
  have hc4669 : (gN_ σ2908 200) < gN_ σ4616 200 := by rw [e4617]; exact hc4601
  have hc4670 : (gN_ σ3017 201) < gN_ σ4616 201 := by rw [e4617]; exact hc4602
  have hc4671 : (gN_ σ3128 202) < gN_ σ4616 202 := by rw [e4617]; exact hc4603
  have hc4672 : (gN_ σ3241 206) < gN_ σ4616 206 := by rw [e4617]; exact hc4604
  have hc4673 : (gN_ σ3356 207) < gN_ σ4616 207 := by rw [e4617]; exact hc4605
  have hc4674 : (gN_ σ3473 208) < gN_ σ4616 208 := by rw [e4617]; exact hc4606
  have hc4675 : (gN_ σ3592 209) < gN_ σ4616 209 := by rw [e4617]; exact hc4607
  have hc4676 : (gN_ σ3713 210) < gN_ σ4616 210 := by rw [e4617]; exact hc4608
  have hc4677 : (gN_ σ3836 211) < gN_ σ4616 211 := by rw [e4617]; exact hc4609
  have hc4678 : (gN_ σ3961 212) < gN_ σ4616 212 := by rw [e4617]; exact hc4610
  have hc4679 : (gN_ σ4088 213) < gN_ σ4616 213 := by rw [e4617]; exact hc4611
  have hc4680 : (gN_ σ4217 214) < gN_ σ4616 214 := by rw [e4617]; exact hc4612
  have hc4681 : (gN_ σ4348 215) < gN_ σ4616 215 := by rw [e4617]; exact hc4613
  have hc4682 : (gN_ σ4481 216) < gN_ σ4616 216 := by rw [e4617]; exact hc4614
  refine lv_aload_n hx hb dX10_init_521 rfl (lv_at hl 0 rfl) ?_
  obtain ⟨hrdy, hs⟩ := ww_pif hs
  have hW := hW.up hrdy
  obtain ⟨σ4685, hc4683, hs⟩ := ww_bnd hs
  obtain ⟨hkp, hs⟩ := ww_pif hs
  obtain ⟨hx0, hcs⟩ := lx_s hx0 hcs hkp
  refine ww_cv (va_runV (As := []) (rest := []) ⟨hx, hb, hml, hown, hts⟩ (c_X10_plain (ry_ g) rfl l L σ4616  _ hc4683) (cwV 0 hts (lw_V q1681 q1683 qs44 q123 q1684) rfl rfl rfl hd_X10_plain ⟨(Nat.le_of_ble_eq_true rfl), (Nat.le_of_ble_eq_true rfl)⟩) (ww_preV hW (pr_dy hc4618 rfl rfl) (obv_0 rfl) rfl) rfl rfl hl.1 rfl (lv_room (Nat.le_of_ble_eq_true rfl)) dX10_init_522 hrm) hW (fun H locs hW => ?_)
  have hc4686 : 0 < gN_ σ4685 109 := by rw [hkp.1]; exact hc4618
  have hc4687 : (gN_ σ 112) < gN_ σ4685 112 := by rw [hkp.1]; exact hc4619
  have hc4688 : (gN_ σ17 113) < gN_ σ4685 113 := by rw [hkp.1]; exact hc4620
  have hc4689 : (gN_ σ28 114) < gN_ σ4685 114 := by rw [hkp.1]; exact hc4621
  have hc4690 : (gN_ σ41 115) < gN_ σ4685 115 := by rw [hkp.1]; exact hc4622
  have hc4691 : (gN_ σ56 116) < gN_ σ4685 116 := by rw [hkp.1]; exact hc4623
  have hc4692 : (gN_ σ73 117) < gN_ σ4685 117 := by rw [hkp.1]; exact hc4624
  have hc4693 : (gN_ σ92 118) < gN_ σ4685 118 := by rw [hkp.1]; exact hc4625
  have hc4694 : (gN_ σ113 119) < gN_ σ4685 119 := by rw [hkp.1]; exact hc4626
  have hc4695 : (gN_ σ136 127) < gN_ σ4685 127 := by rw [hkp.1]; exact hc4627
  have hc4696 : (gN_ σ161 128) < gN_ σ4685 128 := by rw [hkp.1]; exact hc4628
  have hc4697 : (gN_ σ188 129) < gN_ σ4685 129 := by rw [hkp.1]; exact hc4629
  have hc4698 : (gN_ σ217 130) < gN_ σ4685 130 := by rw [hkp.1]; exact hc4630
  have hc4699 : (gN_ σ248 131) < gN_ σ4685 131 := by rw [hkp.1]; exact hc4631
  have hc4700 : (gN_ σ281 137) < gN_ σ4685 137 := by rw [hkp.1]; exact hc4632
  have hc4701 : (gN_ σ316 138) < gN_ σ4685 138 := by rw [hkp.1]; exact hc4633
  have hc4702 : (gN_ σ353 145) < gN_ σ4685 145 := by rw [hkp.1]; exact hc4634
  have hc4703 : (gN_ σ392 146) < gN_ σ4685 146 := by rw [hkp.1]; exact hc4635
  have hc4704 : (gN_ σ433 147) < gN_ σ4685 147 := by rw [hkp.1]; exact hc4636
  have hc4705 : (gN_ σ476 148) < gN_ σ4685 148 := by rw [hkp.1]; exact hc4637
  have hc4706 : (gN_ σ521 150) < gN_ σ4685 150 := by rw [hkp.1]; exact hc4638
  have hc4707 : (gN_ σ568 151) < gN_ σ4685 151 := by rw [hkp.1]; exact hc4639
  have hc4708 : (gN_ σ617 152) < gN_ σ4685 152 := by rw [hkp.1]; exact hc4640
  have hc4709 : (gN_ σ668 153) < gN_ σ4685 153 := by rw [hkp.1]; exact hc4641
  have hc4710 : (gN_ σ721 154) < gN_ σ4685 154 := by rw [hkp.1]; exact hc4642
  have hc4711 : (gN_ σ776 155) < gN_ σ4685 155 := by rw [hkp.1]; exact hc4643
  have hc4712 : (gN_ σ833 156) < gN_ σ4685 156 := by rw [hkp.1]; exact hc4644
  have hc4713 : (gN_ σ892 157) < gN_ σ4685 157 := by rw [hkp.1]; exact hc4645
  have hc4714 : (gN_ σ953 158) < gN_ σ4685 158 := by rw [hkp.1]; exact hc4646
  have hc4715 : (gN_ σ1016 163) < gN_ σ4685 163 := by rw [hkp.1]; exact hc4647
  have hc4716 : (gN_ σ1081 164) < gN_ σ4685 164 := by rw [hkp.1]; exact hc4648
  have hc4717 : (gN_ σ1148 165) < gN_ σ4685 165 := by rw [hkp.1]; exact hc4649
  have hc4718 : (gN_ σ1217 166) < gN_ σ4685 166 := by rw [hkp.1]; exact hc4650
  have hc4719 : (gN_ σ1288 171) < gN_ σ4685 171 := by rw [hkp.1]; exact hc4651
  have hc4720 : (gN_ σ1361 175) < gN_ σ4685 175 := by rw [hkp.1]; exact hc4652
  have hc4721 : (gN_ σ1436 176) < gN_ σ4685 176 := by rw [hkp.1]; exact hc4653
  have hc4722 : (gN_ σ1513 177) < gN_ σ4685 177 := by rw [hkp.1]; exact hc4654
  have hc4723 : (gN_ σ1592 178) < gN_ σ4685 178 := by rw [hkp.1]; exact hc4655
  have hc4724 : (gN_ σ1673 179) < gN_ σ4685 179 := by rw [hkp.1]; exact hc4656
  have hc4725 : (gN_ σ1756 182) < gN_ σ4685 182 := by rw [hkp.1]; exact hc4657
  have hc4726 : (gN_ σ1841 187) < gN_ σ4685 187 := by rw [hkp.1]; exact hc4658
  have hc4727 : (gN_ σ1928 188) < gN_ σ4685 188 := by rw [hkp.1]; exact hc4659
  have hc4728 : (gN_ σ2017 189) < gN_ σ4685 189 := by rw [hkp.1]; exact hc4660
  have hc4729 : (gN_ σ2108 190) < gN_ σ4685 190 := by rw [hkp.1]; exact hc4661
  have hc4730 : (gN_ σ2201 193) < gN_ σ4685 193 := by rw [hkp.1]; exact hc4662
  have hc4731 : (gN_ σ2296 194) < gN_ σ4685 194 := by rw [hkp.1]; exact hc4663
  have hc4732 : (gN_ σ2393 195) < gN_ σ4685 195 := by rw [hkp.1]; exact hc4664
  have hc4733 : (gN_ σ2492 196) < gN_ σ4685 196 := by rw [hkp.1]; exact hc4665
  have hc4734 : (gN_ σ2593 197) < gN_ σ4685 197 := by rw [hkp.1]; exact hc4666
  have hc4735 : (gN_ σ2696 198) < gN_ σ4685 198 := by rw [hkp.1]; exact hc4667
  have hc4736 : (gN_ σ2801 199) < gN_ σ4685 199 := by rw [hkp.1]; exact hc4668
  have hc4737 : (gN_ σ2908 200) < gN_ σ4685 200 := by rw [hkp.1]; exact hc4669
  have hc4738 : (gN_ σ3017 201) < gN_ σ4685 201 := by rw [hkp.1]; exact hc4670
  have hc4739 : (gN_ σ3128 202) < gN_ σ4685 202 := by rw [hkp.1]; exact hc4671
  have hc4740 : (gN_ σ3241 206) < gN_ σ4685 206 := by rw [hkp.1]; exact hc4672
  have hc4741 : (gN_ σ3356 207) < gN_ σ4685 207 := by rw [hkp.1]; exact hc4673
  have hc4742 : (gN_ σ3473 208) < gN_ σ4685 208 := by rw [hkp.1]; exact hc4674
  have hc4743 : (gN_ σ3592 209) < gN_ σ4685 209 := by rw [hkp.1]; exact hc4675
  have hc4744 : (gN_ σ3713 210) < gN_ σ4685 210 := by rw [hkp.1]; exact hc4676
  have hc4745 : (gN_ σ3836 211) < gN_ σ4685 211 := by rw [hkp.1]; exact hc4677
  have hc4746 : (gN_ σ3961 212) < gN_ σ4685 212 := by rw [hkp.1]; exact hc4678
  have hc4747 : (gN_ σ4088 213) < gN_ σ4685 213 := by rw [hkp.1]; exact hc4679
  have hc4748 : (gN_ σ4217 214) < gN_ σ4685 214 := by rw [hkp.1]; exact hc4680
  have hc4749 : (gN_ σ4348 215) < gN_ σ4685 215 := by rw [hkp.1]; exact hc4681
  have hc4750 : (gN_ σ4481 216) < gN_ σ4685 216 := by rw [hkp.1]; exact hc4682
  have hW := hW.down hgm
  refine lv_iconst (v := 0) hx hb dX10_init_525 (by decide) ?_
  refine lv_istore_n (lv' := [(1, .int (0 : Int32)), (0, .ref (L 109 0))]) hx hb dX10_init_526 rfl hl (by decide) rfl (fun ls hl => ?_)
  exact hL527 fu_ L σ4685 (0 : Int32) _ _ _ _ ls hx0 hcs hrm hW (lv_sub hl [1, 0] rfl) hs
set_option maxHeartbeats 4000000 in
theorem c_X17_init (g : wg_T) (hgm : gm g = false) (l : Launch) (L : ly_T) (σ : st_T) (i0 : Nat) (a1 : Int32) (a2 : Int32) (a3 : Int32) (σ_ : st_T) (hs : m_X17_init σ i0 a1 a2 a3 = some σ_) : AV g l yX17_init (ws_ yX17_init cX17_init 4 none) 16 500 [.ref (L 83 i0), .int a1, .int a2, .int a3] L σ  σ_ := by
  refine wbody.met (by decide) (Nat.le_of_ble_eq_true rfl) ?_
  intro p e s m args below meth c ls hx hb hr hml hlocks hts hown hnm hW hl
  have hown : s.vm.findClass RX17 = some m.cls := hown
  obtain ⟨L0, hL0⟩ : ∃ L0, L0 = L := ⟨_, rfl⟩
  obtain ⟨σ0, hσ0⟩ : ∃ σ0, σ0 = σ := ⟨_, rfl⟩
  rw [← hσ0, ← hL0]
  have hx0 : lext L0 σ0 L σ := by rw [hL0, hσ0]; exact lext.refl
  have hcs : bk σ0 σ 0 0 := bk.start hσ0
  have hrm : 0 ≤ cu_ σ_ - cu_ σ0 ∧ 0 ≤ su_ σ_ - su_ σ0 := ⟨Nat.zero_le _, Nat.zero_le _⟩
  have hl : lv_has ls 4 [(0, .ref (L 83 i0)), (1, .int a1), (2, .int a2), (3, .int a3)] := hl
  unfold m_X17_init at hs
  refine lv_aload_n hx hb dX17_init_0 rfl (lv_at hl 0 rfl) ?_
  refine W.objInit hx hb hown (hts _ q611) (hts _ q159) (hts _ q160) rfl (hl.1.trans hml.symm) rfl dX17_init_1 (Nat.le_of_ble_eq_true rfl) (Nat.le_of_ble_eq_true rfl) ?_
  refine lv_aload_n hx hb dX17_init_4 rfl (lv_at hl 0 rfl) ?_
  obtain ⟨hc1, hs⟩ := ww_chk hs
  have hp2 : pr σ 83 i0 := (pr_dy hc1 rfl rfl)
  obtain ⟨σ3, e4, hs⟩ := ww_let hs
  obtain ⟨hs, hck⟩ := ww_ck1 hs
  have hrm1 := hcs.room (σ1 := σ3) (a := 1) (b := 3) (by rw [e4]; rfl) (by rw [e4]; rfl) hck
  refine ww_newo (ci := 4) hx hb hts in_J2 tyJ2 tyJ2_ok hown (hts _ q612) (hts _ q240) (hts _ q117) hW 78 0 (obv_0 rfl) rfl df_78 (Nat.le_of_ble_eq_true rfl) rfl sole_78 (Or.inr hgm) (Or.inl hgm) hrm1.1 hrm1.2 dX17_init_5 (fun H L hx1 hW => ?_)
  rw [← e4] at hx1 hW
  have hcs := hcs.more (σ1 := σ3) (a := 1) (b := 3) (by rw [e4]; rfl) (by rw [e4]; rfl)
  have hrm := hrm1
  have hc5 : i0 < gN_ σ3 83 := Nat.lt_of_lt_of_le hc1 (hx1.2.1 83)
  have hc6 : gN_ σ 78 < gN_ σ3 78 := by rw [e4]; exact nO_lt rfl
  rw [show ow_ 78 = 78 from rfl]
  have hl : lv_has ls 4 [(0, .ref (L 83 i0)), (1, .int a1), (2, .int a2), (3, .int a3)] := by rw [hx1.at hp2 (by decide)]; exact hl
  refine ww_stk (st1 := [.ref (L 78 (gN_ σ 78)), .ref (L 83 i0)]) (by rw [hx1.at hp2 (by decide)]) ?_
  have hx0 := hx0.trans hx1
  refine lv_dup hx hb dX17_init_8 rfl ?_
  obtain ⟨σ7, e8, hs⟩ := ww_let hs
  refine ww_cv (va_runI (As := []) (rest := [.ref (L 78 (gN_ σ 78)), .ref (L 83 i0)]) ⟨hx, hb, hml, hown, hts⟩ (c_AL_init g l L σ3 78 (gN_ σ 78) 79 84 lst_78 (pr_dy hc6 rfl rfl)) (cwI 0 hts (lw_meth q243) rfl rfl rfl (hts _ q117) (hts _ q613) (hts _ q242) rfl hd_J2_init.2 ⟨(Nat.le_of_ble_eq_true rfl), (Nat.le_of_ble_eq_true rfl)⟩) (ww_preS hW) rfl rfl hl.1 rfl (lv_room (Nat.le_of_ble_eq_true rfl)) dX17_init_9 hrm) hW (fun H locs hW => ?_)
  have hW : wv g L σ7 s H locs := by rw [e8]; exact hW
  obtain ⟨hx0, hcs⟩ := lx_s (σ1 := σ7) hx0 hcs (by rw [e8]; exact (kp_I (by decide)))
  have hc9 : i0 < gN_ σ7 83 := by rw [e8]; exact hc5
  have hc10 : (gN_ σ 78) < gN_ σ7 78 := by rw [e8]; exact hc6
  obtain ⟨hc11, hs⟩ := ww_chk hs
  have hpq : pr σ7 78 (gN_ σ 78) := (pr_dy hc10 rfl rfl)
  rw [hc11] at hpq
  obtain ⟨σ12, e13, hs⟩ := ww_let hs
  refine ww_markF (d := (2, 78, 0)) hx hb hts hown (hnm.trans rfl) hW 83 i0 2 0 (pr_dy hc9 rfl rfl) (tgd_2 hpq) (obv_0 rfl) rfl (by decide) (Nat.le_of_ble_eq_true rfl) in_X17 tyX17_ok nmX17 rfl (Nat.le_of_ble_eq_true rfl) (hts _ q700) (fun _ h => h) rfl rfl rfl (fun _ => rfl) (fun _ => rfl) (by rw [hc11]; rfl) dX17_init_12 (fun H locs hW => ?_)
  have hW : wv g L σ12 s H locs := by rw [e13]; exact hW
  obtain ⟨hx0, hcs⟩ := lx_s (σ1 := σ12) hx0 hcs (by rw [e13]; exact (kp_M (by decide)))
  have hc14 : i0 < gN_ σ12 83 := by rw [e13]; exact hc9
  have hc15 : (gN_ σ 78) < gN_ σ12 78 := by rw [e13]; exact hc10
  refine lv_aload_n hx hb dX17_init_15 rfl (lv_at hl 0 rfl) ?_
  refine lv_iconst (v := (-1)) hx hb dX17_init_16 (by decide) ?_
  obtain ⟨σ16, e17, hs⟩ := ww_let hs
  refine ww_put hx hb hts hown hW 83 i0 3 (pr_dy hc14 rfl rfl) (obv_0 rfl) rfl in_X17 tyX17_ok nmX17 rfl (Nat.le_of_ble_eq_true rfl) (Or.inl (hts _ q702)) (fun _ h => h) rfl rfl rfl rfl dX17_init_17 (fun H locs hW => ?_)
  have hW : wv g L σ16 s H locs := by rw [e17]; exact hW
  obtain ⟨hx0, hcs⟩ := lx_s (σ1 := σ16) hx0 hcs (by rw [e17]; exact kp_F)
  have hc18 : i0 < gN_ σ16 83 := by rw [e17]; exact hc14
  have hc19 : (gN_ σ 78) < gN_ σ16 78 := by rw [e17]; exact hc15
  refine lv_aload_n hx hb dX17_init_20 rfl (lv_at hl 0 rfl) ?_
  refine lv_iload_n hx hb dX17_init_21 rfl (lv_at hl 1 rfl) ?_
  obtain ⟨σ20, e21, hs⟩ := ww_let hs
  refine ww_putF hx hb hts hown (hnm.trans rfl) hW 83 i0 0 (pr_dy hc18 rfl rfl) (obv_0 rfl) rfl in_X17 tyX17_ok nmX17 rfl (Nat.le_of_ble_eq_true rfl) (hts _ q696) (fun _ h => h) rfl rfl rfl rfl rfl dX17_init_22 (fun H locs hW => ?_)
  have hW : wv g L σ20 s H locs := by rw [e21]; exact hW
  obtain ⟨hx0, hcs⟩ := lx_s (σ1 := σ20) hx0 hcs (by rw [e21]; exact kp_F)
  have hc22 : i0 < gN_ σ20 83 := by rw [e21]; exact hc18
  have hc23 : (gN_ σ 78) < gN_ σ20 78 := by rw [e21]; exact hc19
  refine lv_aload_n hx hb dX17_init_25 rfl (lv_at hl 0 rfl) ?_
  refine lv_iload_n hx hb dX17_init_26 rfl (lv_at hl 2 rfl) ?_
  obtain ⟨σ24, e25, hs⟩ := ww_let hs
  refine ww_putF hx hb hts hown (hnm.trans rfl) hW 83 i0 1 (pr_dy hc22 rfl rfl) (obv_0 rfl) rfl in_X17 tyX17_ok nmX17 rfl (Nat.le_of_ble_eq_true rfl) (hts _ q698) (fun _ h => h) rfl rfl rfl rfl rfl dX17_init_27 (fun H locs hW => ?_)
  have hW : wv g L σ24 s H locs := by rw [e25]; exact hW
  obtain ⟨hx0, hcs⟩ := lx_s (σ1 := σ24) hx0 hcs (by rw [e25]; exact kp_F)
  have hc26 : i0 < gN_ σ24 83 := by rw [e25]; exact hc22
  have hc27 : (gN_ σ 78) < gN_ σ24 78 := by rw [e25]; exact hc23
  refine lv_aload_n hx hb dX17_init_30 rfl (lv_at hl 0 rfl) ?_
  obtain ⟨hc28, hs⟩ := ww_chk hs
  refine gf_X17_12 hx hb hts hown hW (pr_dy hc26 rfl rfl) hc28 dX17_init_31 ?_
  have hl : lv_has ls 4 [(2, .int a2), (3, .int a3)] := lv_sub hl [2, 3] rfl
  obtain ⟨hc29, hs⟩ := ww_chk hs
  have hp30 : pr σ24 78 i0 := (pr_dy hc29 rfl rfl)
  obtain ⟨σ31, e32, hs⟩ := ww_let hs
  obtain ⟨hs, hck⟩ := ww_ck1 hs
  have hrm1 := hcs.room (σ1 := σ31) (a := 1) (b := 2) (by rw [e32]; rfl) (by rw [e32]; rfl) hck
  refine ww_newo (ci := 7) hx hb hts in_X18 tyX18 tyX18_ok hown (hts _ q614) (hts _ q615) (hts _ q148) hW 84 0 (obv_0 rfl) rfl df_84 (Nat.le_of_ble_eq_true rfl) rfl sole_84 (Or.inr hgm) (Or.inl hgm) hrm1.1 hrm1.2 dX17_init_34 (fun H L hx1 hW => ?_)
  rw [← e32] at hx1 hW
  have hcs := hcs.more (σ1 := σ31) (a := 1) (b := 2) (by rw [e32]; rfl) (by rw [e32]; rfl)
  have hrm := hrm1
  have hc33 : i0 < gN_ σ31 83 := Nat.lt_of_lt_of_le hc26 (hx1.2.1 83)
  have hc34 : (gN_ σ 78) < gN_ σ31 78 := Nat.lt_of_lt_of_le hc27 (hx1.2.1 78)
  have hc35 : i0 < gN_ σ31 78 := Nat.lt_of_lt_of_le hc29 (hx1.2.1 78)
  have hc36 : gN_ σ24 84 < gN_ σ31 84 := by rw [e32]; exact nO_lt rfl
  rw [show ow_ 84 = 84 from rfl]
  refine ww_stk (st1 := [.ref (L 84 (gN_ σ24 84)), .ref (L 78 i0)]) (by rw [hx1.at hp30 (by decide)]) ?_
  have hx0 := hx0.trans hx1
  refine lv_dup hx hb dX17_init_37 rfl ?_
  refine lv_iload_n hx hb dX17_init_38 rfl (lv_at hl 0 rfl) ?_
  refine lv_iload_n hx hb dX17_init_39 rfl (lv_at hl 1 rfl) ?_
  obtain ⟨σ39, hc37, hs⟩ := ww_bnd hs
  obtain ⟨hkp, hs⟩ := ww_pif hs
  obtain ⟨hx0, hcs⟩ := lx_s hx0 hcs hkp
  refine ww_cv (va_runI (As := [.int a2, .int a3]) (rest := [.ref (L 84 (gN_ σ24 84)), .ref (L 78 i0)]) ⟨hx, hb, hml, hown, hts⟩ (c_X18_init g hgm l L σ31 (gN_ σ24 84) a2 a3 _ hc37) (cwI 2 hts (lw_meth q618) rfl rfl rfl (hts _ q148) (hts _ q616) (hts _ q617) rfl hd_X18_init.2 ⟨(Nat.le_of_ble_eq_true rfl), (Nat.le_of_ble_eq_true rfl)⟩) (ww_preS hW) rfl rfl hl.1 rfl (lv_room (Nat.le_of_ble_eq_true rfl)) dX17_init_40 hrm) hW (fun H locs hW => ?_)
  have hc40 : i0 < gN_ σ39 83 := by rw [hkp.1]; exact hc33
  have hc41 : (gN_ σ 78) < gN_ σ39 78 := by rw [hkp.1]; exact hc34
  have hc42 : i0 < gN_ σ39 78 := by rw [hkp.1]; exact hc35
  have hc43 : (gN_ σ24 84) < gN_ σ39 84 := by rw [hkp.1]; exact hc36
  obtain ⟨hc44, hs⟩ := ww_chk hs
  have hp45 : gP_ σ39 78 (200 + 1) i0 ≠ 0 := hc44
  obtain ⟨σ46, hc47, hs⟩ := ww_bnd hs
  have hl : lv_has ls 4 [] := lv_sub hl [] rfl
  obtain ⟨hc48, hs⟩ := ww_chk hs
  obtain ⟨hs, hck⟩ := ww_ck1 hs
  have hrm1 := hcs.roomC hc48 hck
  refine wa_ci (va_runV (As := [.ref (L 84 (gN_ σ24 84))]) (rest := []) ⟨hx, hb, hml, hown, hts⟩ (c_AL_add g l L σ39 σ46 78 i0 79 84 (gN_ σ24 84) lst_78 eq_84 rfl (pr_dy hc42 rfl rfl) (pr_dy hc43 rfl rfl) hp45 hc47 hc48) (cwV 1 hts (lw_V q629 q630 q631 q117 q632) rfl rfl rfl hd_J2_add ⟨(Nat.le_of_ble_eq_true rfl), (Nat.le_of_ble_eq_true rfl)⟩) (ww_preV hW (pr_dy hc42 rfl rfl) (obv_0 rfl) rfl) rfl rfl hl.1 rfl (lv_room (Nat.le_of_ble_eq_true rfl)) dX17_init_43 hrm1) hW (fun H locs L hx1 hW => ?_)
  have hc49 : i0 < gN_ σ46 83 := Nat.lt_of_lt_of_le hc40 (hx1.2.1 83)
  have hc50 : (gN_ σ 78) < gN_ σ46 78 := Nat.lt_of_lt_of_le hc41 (hx1.2.1 78)
  have hc51 : i0 < gN_ σ46 78 := Nat.lt_of_lt_of_le hc42 (hx1.2.1 78)
  have hc52 : (gN_ σ24 84) < gN_ σ46 84 := Nat.lt_of_lt_of_le hc43 (hx1.2.1 84)
  have hcs := hcs.call hc48
  have hrm := hrm1
  have hx0 := hx0.trans hx1
  refine lv_pop hx hb dX17_init_46 rfl ?_
  have hs := ww_S hs
  exact wa_v hx hb hr hlocks hx0 hcs hW hs dX17_init_47
set_option maxHeartbeats 4000000 in
theorem c_X19_init (g : wg_T) (hgm : gm g = false) (l : Launch) (L : ly_T) (σ : st_T) (i0 : Nat) (a2 : Int32) (a3 : Int32) (σ_ : st_T) (hs : m_X19_init σ i0 a2 a3 = some σ_) : AV g l yX19_init (ws_ yX19_init cX19_init 6 none) 29 793 [.ref (L 92 i0), .ref (L 1 0), .int a2, .int a3] L σ  σ_ := by
  refine wbody.met (by decide) (Nat.le_of_ble_eq_true rfl) ?_
  intro p e s m args below meth c ls hx hb hr hml hlocks hts hown hnm hW hl
  have hown : s.vm.findClass RX19 = some m.cls := hown
  obtain ⟨L0, hL0⟩ : ∃ L0, L0 = L := ⟨_, rfl⟩
  obtain ⟨σ0, hσ0⟩ : ∃ σ0, σ0 = σ := ⟨_, rfl⟩
  rw [← hσ0, ← hL0]
  have hx0 : lext L0 σ0 L σ := by rw [hL0, hσ0]; exact lext.refl
  have hcs : bk σ0 σ 0 0 := bk.start hσ0
  have hrm : 0 ≤ cu_ σ_ - cu_ σ0 ∧ 0 ≤ su_ σ_ - su_ σ0 := ⟨Nat.zero_le _, Nat.zero_le _⟩
  have hl : lv_has ls 6 [(0, .ref (L 92 i0)), (1, .ref (L 1 0)), (2, .int a2), (3, .int a3)] := hl
  unfold m_X19_init at hs
  have hL56 : ∀ (n56 : Nat), ∀ (L : ly_T) (σ : st_T) (x4 : Int32) (H : Heap) (locs : List Loc) (cells slots : Nat) (ls : Array Slot), lext L0 σ0 L σ → bk σ0 σ cells slots → (cells ≤ cu_ σ_ - cu_ σ0 ∧ slots ≤ su_ σ_ - su_ σ0) → wv g L σ s H locs → lv_has ls 6 [(0, .ref (L 92 i0)), (1, .ref (L 1 0)), (4, .int x4)] → (m_X19_init_L56 i0 n56) σ x4 = some σ_ → W p l e (wrA 29 793 σ0 σ_) s m args below meth c H locs cells slots (MQ below (wAv g L0 σ0 σ_) args s (cu_ σ_ - cu_ σ0) (su_ σ_ - su_ σ0) (fun q => gz g ≤ q)) (F0 m 56 ls []) := by
    intro n56
    induction n56 with
    | zero => intro L σ x4 H locs cells slots ls hx0 hcs hrm hW hl hs; rw [m_X19_init_L56] at hs; cases hs
    | succ n56 ih56 =>
      have hL89 : ∀ (n89 : Nat), ∀ (L : ly_T) (σ : st_T) (x4 : Int32) (x5 : Int32) (H : Heap) (locs : List Loc) (cells slots : Nat) (ls : Array Slot), lext L0 σ0 L σ → bk σ0 σ cells slots → (cells ≤ cu_ σ_ - cu_ σ0 ∧ slots ≤ su_ σ_ - su_ σ0) → wv g L σ s H locs → lv_has ls 6 [(0, .ref (L 92 i0)), (1, .ref (L 1 0)), (4, .int x4), (5, .int x5)] → (m_X19_init_L89 i0 n89) σ x4 x5 = some σ_ → W p l e (wrA 29 793 σ0 σ_) s m args below meth c H locs cells slots (MQ below (wAv g L0 σ0 σ_) args s (cu_ σ_ - cu_ σ0) (su_ σ_ - su_ σ0) (fun q => gz g ≤ q)) (F0 m 89 ls []) := by
        intro n89
        induction n89 with
        | zero => intro L σ x4 x5 H locs cells slots ls hx0 hcs hrm hW hl hs; rw [m_X19_init_L89] at hs; cases hs
        | succ n89 ih89 =>
          have hL116 : ∀ (L : ly_T) (σ : st_T) (x5 : Int32) (t0 : Int32) (t1 : Int32) (H : Heap) (locs : List Loc) (cells slots : Nat) (ls : Array Slot), lext L0 σ0 L σ → bk σ0 σ cells slots → (cells ≤ cu_ σ_ - cu_ σ0 ∧ slots ≤ su_ σ_ - su_ σ0) → wv g L σ s H locs → lv_has ls 6 [(0, .ref (L 92 i0)), (1, .ref (L 1 0)), (5, .int x5)] → (m_X19_init_L116 i0 (m_X19_init_L89 i0 n89)) σ x5 t0 t1 = some σ_ → W p l e (wrA 29 793 σ0 σ_) s m args below meth c H locs cells slots (MQ below (wAv g L0 σ0 σ_) args s (cu_ σ_ - cu_ σ0) (su_ σ_ - su_ σ0) (fun q => gz g ≤ q)) (F0 m 116 ls [.int t1, .int t0]) := by
            intro L σ x5 t0 t1 H locs cells slots ls hx0 hcs hrm hW hl hs
            unfold m_X19_init_L116 at hs
            refine lv_ior hx hb dX19_init_116 ?_
            refine lv_istore (lv' := [(4, .int (t0 ||| t1)), (0, .ref (L 92 i0)), (1, .ref (L 1 0)), (5, .int x5)]) hx hb dX19_init_117 hl (by decide) rfl (fun ls hl => ?_)
            refine lv_iinc (v := (x5 + (1 : Int32))) (lv' := [(5, .int (x5 + (1 : Int32))), (4, .int (t0 ||| t1)), (0, .ref (L 92 i0)), (1, .ref (L 1 0))]) hx hb dX19_init_119 hl (k := 3) rfl rfl (by decide) rfl (fun ls hl => ?_)
            refine lv_goto (tgt := 89) hx hb dX19_init_122 (by decide) ?_
            exact ih89 L σ (t0 ||| t1) (x5 + (1 : Int32)) _ _ _ _ ls hx0 hcs hrm hW (lv_sub hl [2, 3, 1, 0] rfl) hs
          intro L σ x4 x5 H locs cells slots ls hx0 hcs hrm hW hl hs
          rw [m_X19_init_L89] at hs
          refine lv_iload hx hb dX19_init_89 (lv_at hl 3 rfl) ?_
          refine lv_bipush (v := 10) hx hb dX19_init_91 (by decide) ?_
          refine lv_icmp_ge (tgt := 125) hx hb dX19_init_93 (by decide) (fun hc1 => ?_) (fun hc1 => ?_)
          · have hs := ww_T hs hc1
            refine lv_aload_n hx hb dX19_init_125 rfl (lv_at hl 0 rfl) ?_
            refine lv_iconst (v := 0) hx hb dX19_init_126 (by decide) ?_
            refine lv_iload hx hb dX19_init_127 (lv_at hl 2 rfl) ?_
            obtain ⟨hrdy, hs⟩ := ww_pif hs
            have hW := hW.up hrdy
            obtain ⟨σ4, hc2, hs⟩ := ww_bnd hs
            obtain ⟨hkp, hs⟩ := ww_pif hs
            obtain ⟨hc5, hs⟩ := ww_chk hs
            obtain ⟨hx0, hcs⟩ := lx_s hx0 hcs hkp
            refine ww_cv (va_runV (As := [.int (0 : Int32), .int x4]) (rest := []) ⟨hx, hb, hml, hown, hts⟩ (c_X19_goes (ry_ g) rfl l L 8 σ i0 (0 : Int32) x4 _ hc2) (cwV 2 hts (lw_V q1312 q1314 qs28 q150 q1315) rfl rfl rfl hd_X19_goes ⟨(Nat.le_of_ble_eq_true rfl), (Nat.le_of_ble_eq_true rfl)⟩) (ww_preV hW (pr_dy hc5 rfl rfl) (obv_0 rfl) rfl) rfl rfl hl.1 rfl (lv_room (Nat.le_of_ble_eq_true rfl)) dX19_init_129 hrm) hW (fun H locs hW => ?_)
            have hc6 : i0 < gN_ σ4 92 := by rw [hkp.1]; exact hc5
            have hW := hW.down hgm
            have hs := ww_S hs
            exact wa_v hx hb hr hlocks hx0 hcs hW hs dX19_init_132
          · have hs := ww_F hs hc1
            refine lv_iload hx hb dX19_init_96 (lv_at hl 2 rfl) ?_
            refine lv_aload_n hx hb dX19_init_98 rfl (lv_at hl 1 rfl) ?_
            obtain ⟨hc7, hs⟩ := ww_chk hs
            obtain ⟨hc8, hs⟩ := ww_chk hs
            refine gf_X19_42 hx hb hts hown hW (pr_dy hc7 rfl rfl) hc8 dX19_init_99 ?_
            refine lv_iload hx hb dX19_init_102 (lv_at hl 3 rfl) ?_
            obtain ⟨hc9, hs⟩ := ww_chk hs
            obtain ⟨hc10, hs⟩ := ww_chk hs
            refine ww_zald hx hb hW 35 0 (pr_dy hc9 rfl rfl) rfl hc10 dX19_init_104 ?_
            refine lv_if_eq (tgt := 115) hx hb dX19_init_105 (by decide) (fun hc11 => ?_) (fun hc11 => ?_)
            · have hs := ww_T hs hc11
              refine lv_iconst (v := 0) hx hb dX19_init_115 (by decide) ?_
              exact hL116 L σ x5 x4 (0 : Int32) _ _ _ _ ls hx0 hcs hrm hW (lv_sub hl [0, 1, 3] rfl) hs
            · have hs := ww_F hs hc11
              refine lv_iconst (v := 1) hx hb dX19_init_108 (by decide) ?_
              refine lv_iload hx hb dX19_init_109 (lv_at hl 3 rfl) ?_
              refine lv_ishl hx hb dX19_init_111 ?_
              refine lv_goto (tgt := 116) hx hb dX19_init_112 (by decide) ?_
              exact hL116 L σ x5 x4 ((1 : Int32) <<< (x5 &&& 31)) _ _ _ _ ls hx0 hcs hrm hW (lv_sub hl [0, 1, 3] rfl) hs
      intro L σ x4 H locs cells slots ls hx0 hcs hrm hW hl hs
      rw [m_X19_init_L56] at hs
      refine lv_iload hx hb dX19_init_56 (lv_at hl 2 rfl) ?_
      refine lv_bipush (v := 10) hx hb dX19_init_58 (by decide) ?_
      refine lv_icmp_ge (tgt := 83) hx hb dX19_init_60 (by decide) (fun hc12 => ?_) (fun hc12 => ?_)
      · have hs := ww_T hs hc12
        refine lv_iconst (v := 0) hx hb dX19_init_83 (by decide) ?_
        refine lv_istore (lv' := [(4, .int (0 : Int32)), (0, .ref (L 92 i0)), (1, .ref (L 1 0))]) hx hb dX19_init_84 hl (by decide) rfl (fun ls hl => ?_)
        refine lv_iconst (v := 0) hx hb dX19_init_86 (by decide) ?_
        refine lv_istore (lv' := [(5, .int (0 : Int32)), (4, .int (0 : Int32)), (0, .ref (L 92 i0)), (1, .ref (L 1 0))]) hx hb dX19_init_87 hl (by decide) rfl (fun ls hl => ?_)
        exact hL89 fu_ L σ (0 : Int32) (0 : Int32) _ _ _ _ ls hx0 hcs hrm hW (lv_sub hl [2, 3, 1, 0] rfl) hs
      · have hs := ww_F hs hc12
        refine lv_aload_n hx hb dX19_init_63 rfl (lv_at hl 0 rfl) ?_
        obtain ⟨hc13, hs⟩ := ww_chk hs
        obtain ⟨hc14, hs⟩ := ww_chk hs
        refine gf_X19_15 hx hb hts hown hW (pr_dy hc13 rfl rfl) hc14 dX19_init_64 ?_
        refine lv_iload hx hb dX19_init_67 (lv_at hl 2 rfl) ?_
        refine lv_aload_n hx hb dX19_init_69 rfl (lv_at hl 1 rfl) ?_
        obtain ⟨hc15, hs⟩ := ww_chk hs
        obtain ⟨hc16, hs⟩ := ww_chk hs
        refine gf_X19_39 hx hb hts hown hW (pr_dy hc15 rfl rfl) hc16 dX19_init_70 ?_
        refine lv_iload hx hb dX19_init_73 (lv_at hl 2 rfl) ?_
        obtain ⟨hc17, hs⟩ := ww_chk hs
        obtain ⟨hc18, hs⟩ := ww_chk hs
        refine ww_iald hx hb hW 23 0 (pr_dy hc17 rfl rfl) rfl hc18 dX19_init_75 ?_
        obtain ⟨hc19, hs⟩ := ww_chk hs
        obtain ⟨σ20, e21, hs⟩ := ww_let hs
        refine ww_iast hx hb hW 95 i0 (pr_dy hc19 rfl rfl) rfl hc18 dX19_init_76 (fun H locs hW => ?_)
        have hW : wv g L σ20 s H locs := by rw [e21]; exact hW
        obtain ⟨hx0, hcs⟩ := lx_s (σ1 := σ20) hx0 hcs (by rw [e21]; exact kp_E)
        have hc22 : i0 < gN_ σ20 92 := by rw [e21]; exact hc13
        have hc23 : 0 < gN_ σ20 1 := by rw [e21]; exact hc15
        have hc24 : 0 < gN_ σ20 23 := by rw [e21]; exact hc17
        have hc25 : i0 < gN_ σ20 95 := by rw [e21]; exact hc19
        refine lv_iinc (v := (x4 + (1 : Int32))) (lv' := [(4, .int (x4 + (1 : Int32))), (0, .ref (L 92 i0)), (1, .ref (L 1 0))]) hx hb dX19_init_77 hl (k := 2) rfl rfl (by decide) rfl (fun ls hl => ?_)
        refine lv_goto (tgt := 56) hx hb dX19_init_80 (by decide) ?_
        exact ih56 L σ20 (x4 + (1 : Int32)) _ _ _ _ ls hx0 hcs hrm hW (lv_sub hl [1, 2, 0] rfl) hs
  refine lv_aload_n hx hb dX19_init_0 rfl (lv_at hl 0 rfl) ?_
  refine lv_aload_n hx hb dX19_init_1 rfl (lv_at hl 1 rfl) ?_
  obtain ⟨hc26, hs⟩ := ww_chk hs
  obtain ⟨hc27, hs⟩ := ww_chk hs
  obtain ⟨σ28, e29, hs⟩ := ww_let hs
  refine ww_markF (d := (1, 1, 0)) hx hb hts hown (hnm.trans rfl) hW 92 i0 9 0 (pr_dy hc26 rfl rfl) (tgd_1 (pr_dy hc27 rfl rfl)) (obv_0 rfl) rfl (by decide) (Nat.le_of_ble_eq_true rfl) in_X19 tyX19_ok nmX19 rfl (Nat.le_of_ble_eq_true rfl) (hts _ q1346) (fun _ h => h) rfl rfl rfl (fun _ => rfl) (fun _ => rfl) rfl dX19_init_2 (fun H locs hW => ?_)
  have hW : wv g L σ28 s H locs := by rw [e29]; exact hW
  obtain ⟨hx0, hcs⟩ := lx_s (σ1 := σ28) hx0 hcs (by rw [e29]; exact (kp_M (by decide)))
  have hc30 : i0 < gN_ σ28 92 := by rw [e29]; exact hc26
  have hc31 : 0 < gN_ σ28 1 := by rw [e29]; exact hc27
  refine lv_aload_n hx hb dX19_init_5 rfl (lv_at hl 0 rfl) ?_
  refine W.objInit hx hb hown (hts _ q1310) (hts _ q159) (hts _ q160) rfl (hl.1.trans hml.symm) rfl dX19_init_6 (Nat.le_of_ble_eq_true rfl) (Nat.le_of_ble_eq_true rfl) ?_
  refine lv_aload_n hx hb dX19_init_9 rfl (lv_at hl 0 rfl) ?_
  refine lv_bipush (v := 10) hx hb dX19_init_10 (by decide) ?_
  have hp32 : pr σ28 92 i0 := (pr_dy hc30 rfl rfl)
  have hp33 : pr σ28 1 0 := (pr_dy hc31 rfl rfl)
  obtain ⟨σ34, e35, hs⟩ := ww_let hs
  obtain ⟨hs, hck⟩ := ww_ck1 hs
  have hrm1 := hcs.room (σ1 := σ34) (a := 1) (b := 10) (by rw [e35]; rfl) (by rw [e35]; rfl) hck
  refine ww_newa (atype := .int) hx hb (hts _ q201) hW 95 0 10 (Or.inl rfl) sole_95 (Or.inr hgm) rfl rfl rfl (by decide) rfl (Nat.le_of_ble_eq_true rfl) hrm1.1 hrm1.2 dX19_init_12 (fun H L hx1 hW => ?_)
  rw [← e35] at hx1 hW
  have hcs := hcs.more (σ1 := σ34) (a := 1) (b := 10) (by rw [e35]; rfl) (by rw [e35]; rfl)
  have hrm := hrm1
  have hc36 : i0 < gN_ σ34 92 := Nat.lt_of_lt_of_le hc30 (hx1.2.1 92)
  have hc37 : 0 < gN_ σ34 1 := Nat.lt_of_lt_of_le hc31 (hx1.2.1 1)
  have hc38 : gN_ σ28 95 < gN_ σ34 95 := by rw [e35]; exact nA_lt rfl
  rw [show ow_ 95 = 95 from rfl]
  have hl : lv_has ls 6 [(0, .ref (L 92 i0)), (1, .ref (L 1 0)), (2, .int a2), (3, .int a3)] := by rw [hx1.at hp32 (by decide), hx1.at hp33 (by decide)]; exact hl
  refine ww_stk (st1 := [.ref (L 95 (gN_ σ28 95)), .ref (L 92 i0)]) (by rw [hx1.at hp32 (by decide)]) ?_
  have hx0 := hx0.trans hx1
  obtain ⟨hc39, hs⟩ := ww_chk hs
  have hpq : pr σ34 95 (gN_ σ28 95) := (pr_dy hc38 rfl rfl)
  rw [hc39] at hpq
  obtain ⟨σ40, e41, hs⟩ := ww_let hs
  refine ww_markF (d := (2, 95, 0)) hx hb hts hown (hnm.trans rfl) hW 92 i0 4 0 (pr_dy hc36 rfl rfl) (tgd_2 hpq) (obv_0 rfl) rfl (by decide) (Nat.le_of_ble_eq_true rfl) in_X19 tyX19_ok nmX19 rfl (Nat.le_of_ble_eq_true rfl) (hts _ q1339) (fun _ h => h) rfl rfl rfl (fun _ => rfl) (fun _ => rfl) (by rw [hc39]; rfl) dX19_init_14 (fun H locs hW => ?_)
  have hW : wv g L σ40 s H locs := by rw [e41]; exact hW
  obtain ⟨hx0, hcs⟩ := lx_s (σ1 := σ40) hx0 hcs (by rw [e41]; exact (kp_M (by decide)))
  have hc42 : i0 < gN_ σ40 92 := by rw [e41]; exact hc36
  have hc43 : 0 < gN_ σ40 1 := by rw [e41]; exact hc37
  have hc44 : (gN_ σ28 95) < gN_ σ40 95 := by rw [e41]; exact hc38
  refine lv_aload_n hx hb dX19_init_17 rfl (lv_at hl 0 rfl) ?_
  refine lv_ldc hx hb hown (hts _ q1311) dX19_init_18 ?_
  obtain ⟨σ45, e46, hs⟩ := ww_let hs
  refine ww_put hx hb hts hown hW 92 i0 5 (pr_dy hc42 rfl rfl) (obv_0 rfl) rfl in_X19 tyX19_ok nmX19 rfl (Nat.le_of_ble_eq_true rfl) (Or.inl (hts _ q1340)) (fun _ h => h) rfl rfl rfl rfl dX19_init_20 (fun H locs hW => ?_)
  have hW : wv g L σ45 s H locs := by rw [e46]; exact hW
  obtain ⟨hx0, hcs⟩ := lx_s (σ1 := σ45) hx0 hcs (by rw [e46]; exact kp_F)
  have hc47 : i0 < gN_ σ45 92 := by rw [e46]; exact hc42
  have hc48 : 0 < gN_ σ45 1 := by rw [e46]; exact hc43
  have hc49 : (gN_ σ28 95) < gN_ σ45 95 := by rw [e46]; exact hc44
  refine lv_aload_n hx hb dX19_init_23 rfl (lv_at hl 0 rfl) ?_
  refine lv_ldc hx hb hown (hts _ q1311) dX19_init_24 ?_
  obtain ⟨σ50, e51, hs⟩ := ww_let hs
  refine ww_put hx hb hts hown hW 92 i0 6 (pr_dy hc47 rfl rfl) (obv_0 rfl) rfl in_X19 tyX19_ok nmX19 rfl (Nat.le_of_ble_eq_true rfl) (Or.inl (hts _ q1341)) (fun _ h => h) rfl rfl rfl rfl dX19_init_26 (fun H locs hW => ?_)
  have hW : wv g L σ50 s H locs := by rw [e51]; exact hW
  obtain ⟨hx0, hcs⟩ := lx_s (σ1 := σ50) hx0 hcs (by rw [e51]; exact kp_F)
  have hc52 : i0 < gN_ σ50 92 := by rw [e51]; exact hc47
  have hc53 : 0 < gN_ σ50 1 := by rw [e51]; exact hc48
  have hc54 : (gN_ σ28 95) < gN_ σ50 95 := by rw [e51]; exact hc49
  refine lv_aload_n hx hb dX19_init_29 rfl (lv_at hl 0 rfl) ?_
  refine lv_iload_n hx hb dX19_init_30 rfl (lv_at hl 2 rfl) ?_
  obtain ⟨σ55, e56, hs⟩ := ww_let hs
  refine ww_putF hx hb hts hown (hnm.trans rfl) hW 92 i0 0 (pr_dy hc52 rfl rfl) (obv_0 rfl) rfl in_X19 tyX19_ok nmX19 rfl (Nat.le_of_ble_eq_true rfl) (hts _ q1334) (fun _ h => h) rfl rfl rfl rfl rfl dX19_init_31 (fun H locs hW => ?_)
  have hW : wv g L σ55 s H locs := by rw [e56]; exact hW
  obtain ⟨hx0, hcs⟩ := lx_s (σ1 := σ55) hx0 hcs (by rw [e56]; exact kp_F)
  have hc57 : i0 < gN_ σ55 92 := by rw [e56]; exact hc52
  have hc58 : 0 < gN_ σ55 1 := by rw [e56]; exact hc53
  have hc59 : (gN_ σ28 95) < gN_ σ55 95 := by rw [e56]; exact hc54
  refine lv_aload_n hx hb dX19_init_34 rfl (lv_at hl 0 rfl) ?_
  refine lv_iload_n hx hb dX19_init_35 rfl (lv_at hl 3 rfl) ?_
  obtain ⟨σ60, e61, hs⟩ := ww_let hs
  refine ww_putF hx hb hts hown (hnm.trans rfl) hW 92 i0 1 (pr_dy hc57 rfl rfl) (obv_0 rfl) rfl in_X19 tyX19_ok nmX19 rfl (Nat.le_of_ble_eq_true rfl) (hts _ q1335) (fun _ h => h) rfl rfl rfl rfl rfl dX19_init_36 (fun H locs hW => ?_)
  have hW : wv g L σ60 s H locs := by rw [e61]; exact hW
  obtain ⟨hx0, hcs⟩ := lx_s (σ1 := σ60) hx0 hcs (by rw [e61]; exact kp_F)
  have hc62 : i0 < gN_ σ60 92 := by rw [e61]; exact hc57
  have hc63 : 0 < gN_ σ60 1 := by rw [e61]; exact hc58
  have hc64 : (gN_ σ28 95) < gN_ σ60 95 := by rw [e61]; exact hc59
  refine lv_aload_n hx hb dX19_init_39 rfl (lv_at hl 0 rfl) ?_
  refine lv_iload_n hx hb dX19_init_40 rfl (lv_at hl 2 rfl) ?_
  obtain ⟨hc65, hs⟩ := ww_chk hs
  have hl : lv_has ls 6 [(0, .ref (L 92 i0)), (1, .ref (L 1 0)), (2, .int a2)] := lv_sub hl [0, 1, 2] rfl
  have hp66 : pr σ60 92 i0 := (pr_dy hc62 rfl rfl)
  have hp67 : pr σ60 1 0 := (pr_dy hc63 rfl rfl)
  obtain ⟨σ68, e69, hs⟩ := ww_let hs
  obtain ⟨hs, hck⟩ := ww_ck1 hs
  have hrm1 := hcs.room (σ1 := σ68) (a := 1) (b := a2.toNatClampNeg) (by rw [e69]; rfl) (by rw [e69]; rfl) hck
  refine ww_newa (atype := .int) hx hb (hts _ q201) hW 93 0 (a2.toNatClampNeg) (Or.inr rfl) sole_93 (Or.inr hgm) rfl rfl rfl hc65.1 rfl (Nat.le_trans (Nat.mul_le_mul_right _ hc65.2) (Nat.le_of_ble_eq_true rfl)) hrm1.1 hrm1.2 dX19_init_41 (fun H L hx1 hW => ?_)
  rw [← e69] at hx1 hW
  have hcs := hcs.more (σ1 := σ68) (a := 1) (b := a2.toNatClampNeg) (by rw [e69]; rfl) (by rw [e69]; rfl)
  have hrm := hrm1
  have hc70 : i0 < gN_ σ68 92 := Nat.lt_of_lt_of_le hc62 (hx1.2.1 92)
  have hc71 : 0 < gN_ σ68 1 := Nat.lt_of_lt_of_le hc63 (hx1.2.1 1)
  have hc72 : (gN_ σ28 95) < gN_ σ68 95 := Nat.lt_of_lt_of_le hc64 (hx1.2.1 95)
  have hc73 : gN_ σ60 93 < gN_ σ68 93 := by rw [e69]; exact nA_lt rfl
  rw [show ow_ 93 = 93 from rfl]
  have hl : lv_has ls 6 [(0, .ref (L 92 i0)), (1, .ref (L 1 0)), (2, .int a2)] := by rw [hx1.at hp66 (by decide), hx1.at hp67 (by decide)]; exact hl
  refine ww_stk (st1 := [.ref (L 93 (gN_ σ60 93)), .ref (L 92 i0)]) (by rw [hx1.at hp66 (by decide)]) ?_
  have hx0 := hx0.trans hx1
  obtain ⟨hc74, hs⟩ := ww_chk hs
  have hpq : pr σ68 93 (gN_ σ60 93) := (pr_dy hc73 rfl rfl)
  rw [hc74] at hpq
  obtain ⟨σ75, e76, hs⟩ := ww_let hs
  refine ww_markF (d := (2, 93, 0)) hx hb hts hown (hnm.trans rfl) hW 92 i0 2 0 (pr_dy hc70 rfl rfl) (tgd_2 hpq) (obv_0 rfl) rfl (by decide) (Nat.le_of_ble_eq_true rfl) in_X19 tyX19_ok nmX19 rfl (Nat.le_of_ble_eq_true rfl) (hts _ q1336) (fun _ h => h) rfl rfl rfl (fun _ => rfl) (fun _ => rfl) (by rw [hc74]; rfl) dX19_init_43 (fun H locs hW => ?_)
  have hW : wv g L σ75 s H locs := by rw [e76]; exact hW
  obtain ⟨hx0, hcs⟩ := lx_s (σ1 := σ75) hx0 hcs (by rw [e76]; exact (kp_M (by decide)))
  have hc77 : i0 < gN_ σ75 92 := by rw [e76]; exact hc70
  have hc78 : 0 < gN_ σ75 1 := by rw [e76]; exact hc71
  have hc79 : (gN_ σ28 95) < gN_ σ75 95 := by rw [e76]; exact hc72
  have hc80 : (gN_ σ60 93) < gN_ σ75 93 := by rw [e76]; exact hc73
  refine lv_aload_n hx hb dX19_init_46 rfl (lv_at hl 0 rfl) ?_
  refine lv_iload_n hx hb dX19_init_47 rfl (lv_at hl 2 rfl) ?_
  obtain ⟨hc81, hs⟩ := ww_chk hs
  have hl : lv_has ls 6 [(0, .ref (L 92 i0)), (1, .ref (L 1 0))] := lv_sub hl [0, 1] rfl
  have hp82 : pr σ75 92 i0 := (pr_dy hc77 rfl rfl)
  have hp83 : pr σ75 1 0 := (pr_dy hc78 rfl rfl)
  obtain ⟨σ84, e85, hs⟩ := ww_let hs
  obtain ⟨hs, hck⟩ := ww_ck1 hs
  have hrm1 := hcs.room (σ1 := σ84) (a := 1) (b := a2.toNatClampNeg) (by rw [e85]; rfl) (by rw [e85]; rfl) hck
  refine ww_newa (atype := .int) hx hb (hts _ q201) hW 94 0 (a2.toNatClampNeg) (Or.inr rfl) sole_94 (Or.inr hgm) rfl rfl rfl hc81.1 rfl (Nat.le_trans (Nat.mul_le_mul_right _ hc81.2) (Nat.le_of_ble_eq_true rfl)) hrm1.1 hrm1.2 dX19_init_48 (fun H L hx1 hW => ?_)
  rw [← e85] at hx1 hW
  have hcs := hcs.more (σ1 := σ84) (a := 1) (b := a2.toNatClampNeg) (by rw [e85]; rfl) (by rw [e85]; rfl)
  have hrm := hrm1
  have hc86 : i0 < gN_ σ84 92 := Nat.lt_of_lt_of_le hc77 (hx1.2.1 92)
  have hc87 : 0 < gN_ σ84 1 := Nat.lt_of_lt_of_le hc78 (hx1.2.1 1)
  have hc88 : (gN_ σ28 95) < gN_ σ84 95 := Nat.lt_of_lt_of_le hc79 (hx1.2.1 95)
  have hc89 : (gN_ σ60 93) < gN_ σ84 93 := Nat.lt_of_lt_of_le hc80 (hx1.2.1 93)
  have hc90 : gN_ σ75 94 < gN_ σ84 94 := by rw [e85]; exact nA_lt rfl
  rw [show ow_ 94 = 94 from rfl]
  have hl : lv_has ls 6 [(0, .ref (L 92 i0)), (1, .ref (L 1 0))] := by rw [hx1.at hp82 (by decide), hx1.at hp83 (by decide)]; exact hl
  refine ww_stk (st1 := [.ref (L 94 (gN_ σ75 94)), .ref (L 92 i0)]) (by rw [hx1.at hp82 (by decide)]) ?_
  have hx0 := hx0.trans hx1
  obtain ⟨hc91, hs⟩ := ww_chk hs
  have hpq : pr σ84 94 (gN_ σ75 94) := (pr_dy hc90 rfl rfl)
  rw [hc91] at hpq
  obtain ⟨σ92, e93, hs⟩ := ww_let hs
  refine ww_markF (d := (2, 94, 0)) hx hb hts hown (hnm.trans rfl) hW 92 i0 3 0 (pr_dy hc86 rfl rfl) (tgd_2 hpq) (obv_0 rfl) rfl (by decide) (Nat.le_of_ble_eq_true rfl) in_X19 tyX19_ok nmX19 rfl (Nat.le_of_ble_eq_true rfl) (hts _ q1337) (fun _ h => h) rfl rfl rfl (fun _ => rfl) (fun _ => rfl) (by rw [hc91]; rfl) dX19_init_50 (fun H locs hW => ?_)
  have hW : wv g L σ92 s H locs := by rw [e93]; exact hW
  obtain ⟨hx0, hcs⟩ := lx_s (σ1 := σ92) hx0 hcs (by rw [e93]; exact (kp_M (by decide)))
  have hc94 : i0 < gN_ σ92 92 := by rw [e93]; exact hc86
  have hc95 : 0 < gN_ σ92 1 := by rw [e93]; exact hc87
  have hc96 : (gN_ σ28 95) < gN_ σ92 95 := by rw [e93]; exact hc88
  have hc97 : (gN_ σ60 93) < gN_ σ92 93 := by rw [e93]; exact hc89
  have hc98 : (gN_ σ75 94) < gN_ σ92 94 := by rw [e93]; exact hc90
  refine lv_iconst (v := 0) hx hb dX19_init_53 (by decide) ?_
  refine lv_istore (lv' := [(4, .int (0 : Int32)), (0, .ref (L 92 i0)), (1, .ref (L 1 0))]) hx hb dX19_init_54 hl (by decide) rfl (fun ls hl => ?_)
  exact hL56 fu_ L σ92 (0 : Int32) _ _ _ _ ls hx0 hcs hrm hW (lv_sub hl [1, 2, 0] rfl) hs
set_option maxHeartbeats 4000000 in
theorem c_X1_night (g : wg_T) (hgm : gm g = true) (l : Launch) (L : ly_T) (σ : st_T)  (r_ : Int32) (σ_ : st_T) (hs : m_X1_night σ = some (r_, σ_)) : AI g l yX1_night (ws_ yX1_night cX1_night 5 (some .int)) 17 523 [.ref (L 1 0)] L σ r_ σ_ := by
  refine wbody.met (by decide) (Nat.le_of_ble_eq_true rfl) ?_
  intro p e s m args below meth c ls hx hb hr hml hlocks hts hown hnm hW hl
  have hown : s.vm.findClass RX1 = some m.cls := hown
  obtain ⟨L0, hL0⟩ : ∃ L0, L0 = L := ⟨_, rfl⟩
  obtain ⟨σ0, hσ0⟩ : ∃ σ0, σ0 = σ := ⟨_, rfl⟩
  rw [← hσ0, ← hL0]
  have hx0 : lext L0 σ0 L σ := by rw [hL0, hσ0]; exact lext.refl
  have hcs : bk σ0 σ 0 0 := bk.start hσ0
  have hrm : 0 ≤ cu_ σ_ - cu_ σ0 ∧ 0 ≤ su_ σ_ - su_ σ0 := ⟨Nat.zero_le _, Nat.zero_le _⟩
  have hl : lv_has ls 5 [(0, .ref (L 1 0))] := hl
  unfold m_X1_night at hs
  have hL21 : ∀ (n21 : Nat), ∀ (L : ly_T) (σ : st_T) (x1 : Int32) (H : Heap) (locs : List Loc) (cells slots : Nat) (ls : Array Slot), lext L0 σ0 L σ → bk σ0 σ cells slots → (cells ≤ cu_ σ_ - cu_ σ0 ∧ slots ≤ su_ σ_ - su_ σ0) → wv g L σ s H locs → lv_has ls 5 [(0, .ref (L 1 0)), (1, .int x1)] → (m_X1_night_L21 n21) σ x1 = some (r_, σ_) → W p l e (wrA 17 523 σ0 σ_) s m args below meth c H locs cells slots (MQ below (wAi g L0 σ0 r_ σ_) args s (cu_ σ_ - cu_ σ0) (su_ σ_ - su_ σ0) (fun q => gz g ≤ q)) (F0 m 21 ls []) := by
    intro n21
    induction n21 with
    | zero => intro L σ x1 H locs cells slots ls hx0 hcs hrm hW hl hs; rw [m_X1_night_L21] at hs; cases hs
    | succ n21 ih21 =>
      have hL77 : ∀ (n77 : Nat), ∀ (L : ly_T) (σ : st_T) (x1 : Int32) (x2 : Int32) (H : Heap) (locs : List Loc) (cells slots : Nat) (ls : Array Slot), lext L0 σ0 L σ → bk σ0 σ cells slots → (cells ≤ cu_ σ_ - cu_ σ0 ∧ slots ≤ su_ σ_ - su_ σ0) → wv g L σ s H locs → lv_has ls 5 [(0, .ref (L 1 0)), (1, .int x1), (2, .int x2)] → (m_X1_night_L77 n77) σ x1 x2 = some (r_, σ_) → W p l e (wrA 17 523 σ0 σ_) s m args below meth c H locs cells slots (MQ below (wAi g L0 σ0 r_ σ_) args s (cu_ σ_ - cu_ σ0) (su_ σ_ - su_ σ0) (fun q => gz g ≤ q)) (F0 m 77 ls []) := by
        intro n77
        induction n77 with
        | zero => intro L σ x1 x2 H locs cells slots ls hx0 hcs hrm hW hl hs; rw [m_X1_night_L77] at hs; cases hs
        | succ n77 ih77 =>
          have hL180 : ∀ (n180 : Nat), ∀ (L : ly_T) (σ : st_T) (x1 : Int32) (x2 : Int32) (H : Heap) (locs : List Loc) (cells slots : Nat) (ls : Array Slot), lext L0 σ0 L σ → bk σ0 σ cells slots → (cells ≤ cu_ σ_ - cu_ σ0 ∧ slots ≤ su_ σ_ - su_ σ0) → wv g L σ s H locs → lv_has ls 5 [(0, .ref (L 1 0)), (1, .int x1), (2, .int x2)] → (m_X1_night_L180 n180) σ x1 x2 = some (r_, σ_) → W p l e (wrA 17 523 σ0 σ_) s m args below meth c H locs cells slots (MQ below (wAi g L0 σ0 r_ σ_) args s (cu_ σ_ - cu_ σ0) (su_ σ_ - su_ σ0) (fun q => gz g ≤ q)) (F0 m 180 ls []) := by
            intro n180
            induction n180 with
            | zero => intro L σ x1 x2 H locs cells slots ls hx0 hcs hrm hW hl hs; rw [m_X1_night_L180] at hs; cases hs
            | succ n180 ih180 =>
              have hL233 : ∀ (L : ly_T) (σ : st_T) (x1 : Int32) (x2 : Int32) (H : Heap) (locs : List Loc) (cells slots : Nat) (ls : Array Slot), lext L0 σ0 L σ → bk σ0 σ cells slots → (cells ≤ cu_ σ_ - cu_ σ0 ∧ slots ≤ su_ σ_ - su_ σ0) → wv g L σ s H locs → lv_has ls 5 [(0, .ref (L 1 0)), (1, .int x1), (2, .int x2)] → (m_X1_night_L233 (m_X1_night_L180 n180)) σ x1 x2 = some (r_, σ_) → W p l e (wrA 17 523 σ0 σ_) s m args below meth c H locs cells slots (MQ below (wAi g L0 σ0 r_ σ_) args s (cu_ σ_ - cu_ σ0) (su_ σ_ - su_ σ0) (fun q => gz g ≤ q)) (F0 m 233 ls []) := by
                have hL265 : ∀ (L : ly_T) (σ : st_T) (x1 : Int32) (x2 : Int32) (t1 : Int32) (t2 : Int32) (t3 : Int32) (H : Heap) (locs : List Loc) (cells slots : Nat) (ls : Array Slot), lext L0 σ0 L σ → bk σ0 σ cells slots → (cells ≤ cu_ σ_ - cu_ σ0 ∧ slots ≤ su_ σ_ - su_ σ0) → wv g L σ s H locs → lv_has ls 5 [(0, .ref (L 1 0)), (1, .int x1), (2, .int x2)] → (m_X1_night_L265 (m_X1_night_L180 n180)) σ x1 x2 t1 t2 t3 = some (r_, σ_) → W p l e (wrA 17 523 σ0 σ_) s m args below meth c H locs cells slots (MQ below (wAi g L0 σ0 r_ σ_) args s (cu_ σ_ - cu_ σ0) (su_ σ_ - su_ σ0) (fun q => gz g ≤ q)) (F0 m 265 ls [.int t3, .int t2, .int t1, .ref (L 23 0)]) := by
                  intro L σ x1 x2 t1 t2 t3 H locs cells slots ls hx0 hcs hrm hW hl hs
                  unfold m_X1_night_L265 at hs
                  refine lv_iadd hx hb dX1_night_265 ?_
                  obtain ⟨hc1, hs⟩ := ww_chk hs
                  obtain ⟨σ2, e3, hs⟩ := ww_let hs
                  refine ww_iast hx hb hW 23 0 (pr_st (hW.rd hgm) (Nat.le_of_ble_eq_true rfl)) rfl hc1 dX1_night_266 (fun H locs hW => ?_)
                  have hW : wv g L σ2 s H locs := by rw [e3]; exact hW
                  obtain ⟨hx0, hcs⟩ := lx_s (σ1 := σ2) hx0 hcs (by rw [e3]; exact kp_E)
                  refine lv_iinc (v := (x2 + (1 : Int32))) (lv' := [(2, .int (x2 + (1 : Int32))), (0, .ref (L 1 0)), (1, .int x1)]) hx hb dX1_night_267 hl (k := 2) rfl rfl (by decide) rfl (fun ls hl => ?_)
                  refine lv_goto (tgt := 180) hx hb dX1_night_270 (by decide) ?_
                  exact ih180 L σ2 x1 (x2 + (1 : Int32)) _ _ _ _ ls hx0 hcs hrm hW (lv_sub hl [1, 2, 0] rfl) hs
                intro L σ x1 x2 H locs cells slots ls hx0 hcs hrm hW hl hs
                unfold m_X1_night_L233 at hs
                refine lv_aload_n hx hb dX1_night_233 rfl (lv_at hl 0 rfl) ?_
                refine gf_X1_130 hx hb hts hown hW (pr_st (hW.rd hgm) (Nat.le_of_ble_eq_true rfl)) (hW.fl hgm (pr_st (hW.rd hgm) (Nat.le_of_ble_eq_true rfl)) 25 (by decide) rfl (by decide)) dX1_night_234 ?_
                refine lv_iload_n hx hb dX1_night_237 rfl (lv_at hl 2 rfl) ?_
                refine lv_aload_n hx hb dX1_night_238 rfl (lv_at hl 0 rfl) ?_
                refine lv_iload_n hx hb dX1_night_239 rfl (lv_at hl 2 rfl) ?_
                obtain ⟨v6, hc4, hs⟩ := ww_bnd hs
                refine ww_ci (va_runV (As := [.int x2]) (rest := [.int x2, .ref (L 35 0)]) ⟨hx, hb, hml, hown, hts⟩ (c_X1_isTold g hgm l L σ x2 _ hc4) (cwV 1 hts (lw_V q714 q716 qs9 q111 q717) rfl rfl rfl hd_X1_isTold ⟨(Nat.le_of_ble_eq_true rfl), (Nat.le_of_ble_eq_true rfl)⟩) (ww_preV hW (pr_st (hW.rd hgm) (Nat.le_of_ble_eq_true rfl)) (obv_0 rfl) rfl) rfl rfl hl.1 rfl (lv_room (Nat.le_of_ble_eq_true rfl)) dX1_night_240 hrm) hW (fun H locs hW => ?_)
                obtain ⟨hc7, hs⟩ := ww_chk hs
                obtain ⟨σ8, e9, hs⟩ := ww_let hs
                refine ww_zast hx hb hW 35 0 (pr_st (hW.rd hgm) (Nat.le_of_ble_eq_true rfl)) rfl hc7 dX1_night_243 (fun H locs hW => ?_)
                have hW : wv g L σ8 s H locs := by rw [e9]; exact hW
                obtain ⟨hx0, hcs⟩ := lx_s (σ1 := σ8) hx0 hcs (by rw [e9]; exact kp_E)
                refine lv_aload_n hx hb dX1_night_244 rfl (lv_at hl 0 rfl) ?_
                refine gf_X1_94 hx hb hts hown hW (pr_st (hW.rd hgm) (Nat.le_of_ble_eq_true rfl)) (hW.fl hgm (pr_st (hW.rd hgm) (Nat.le_of_ble_eq_true rfl)) 13 (by decide) rfl (by decide)) dX1_night_245 ?_
                refine lv_iload_n hx hb dX1_night_248 rfl (lv_at hl 2 rfl) ?_
                refine lv_dup2_11 hx hb dX1_night_249 rfl rfl ?_
                refine ww_iald hx hb hW 23 0 (pr_st (hW.rd hgm) (Nat.le_of_ble_eq_true rfl)) rfl hc7 dX1_night_250 ?_
                refine lv_aload_n hx hb dX1_night_251 rfl (lv_at hl 0 rfl) ?_
                refine gf_X1_130 hx hb hts hown hW (pr_st (hW.rd hgm) (Nat.le_of_ble_eq_true rfl)) (hW.fl hgm (pr_st (hW.rd hgm) (Nat.le_of_ble_eq_true rfl)) 25 (by decide) rfl (by decide)) dX1_night_252 ?_
                refine lv_iload_n hx hb dX1_night_255 rfl (lv_at hl 2 rfl) ?_
                refine ww_zald hx hb hW 35 0 (pr_st (hW.rd hgm) (Nat.le_of_ble_eq_true rfl)) rfl hc7 dX1_night_256 ?_
                refine lv_if_eq (tgt := 264) hx hb dX1_night_257 (by decide) (fun hc10 => ?_) (fun hc10 => ?_)
                · have hs := ww_T hs hc10
                  refine lv_iconst (v := 0) hx hb dX1_night_264 (by decide) ?_
                  exact hL265 L σ8 x1 x2 x2 (gA_ σ8 23 0 x2.toNatClampNeg) (0 : Int32) _ _ _ _ ls hx0 hcs hrm hW (lv_sub hl [0, 1, 2] rfl) hs
                · have hs := ww_F hs hc10
                  refine lv_iconst (v := 1) hx hb dX1_night_260 (by decide) ?_
                  refine lv_goto (tgt := 265) hx hb dX1_night_261 (by decide) ?_
                  exact hL265 L σ8 x1 x2 x2 (gA_ σ8 23 0 x2.toNatClampNeg) (1 : Int32) _ _ _ _ ls hx0 hcs hrm hW (lv_sub hl [0, 1, 2] rfl) hs
              intro L σ x1 x2 H locs cells slots ls hx0 hcs hrm hW hl hs
              rw [m_X1_night_L180] at hs
              refine lv_iload_n hx hb dX1_night_180 rfl (lv_at hl 2 rfl) ?_
              refine lv_bipush (v := 10) hx hb dX1_night_181 (by decide) ?_
              refine lv_icmp_ge (tgt := 273) hx hb dX1_night_183 (by decide) (fun hc11 => ?_) (fun hc11 => ?_)
              · have hs := ww_T hs hc11
                refine lv_aload_n hx hb dX1_night_273 rfl (lv_at hl 0 rfl) ?_
                refine lv_iconst (v := 0) hx hb dX1_night_274 (by decide) ?_
                obtain ⟨σ12, e13, hs⟩ := ww_let hs
                refine pf_X1_296 hx hb hts hown hW (pr_st (hW.rd hgm) (Nat.le_of_ble_eq_true rfl)) dX1_night_275 (fun H locs hW => ?_)
                have hW : wv g L σ12 s H locs := by rw [e13]; exact hW
                obtain ⟨hx0, hcs⟩ := lx_s (σ1 := σ12) hx0 hcs (by rw [e13]; exact kp_F)
                refine lv_aload_n hx hb dX1_night_278 rfl (lv_at hl 0 rfl) ?_
                refine lv_dup hx hb dX1_night_279 rfl ?_
                refine gf_X1_325 hx hb hts hown hW (pr_st (hW.rd hgm) (Nat.le_of_ble_eq_true rfl)) dX1_night_280 ?_
                refine lv_iconst (v := 1) hx hb dX1_night_283 (by decide) ?_
                refine lv_iadd hx hb dX1_night_284 ?_
                obtain ⟨σ14, e15, hs⟩ := ww_let hs
                refine pf_X1_325 hx hb hts hown hW (pr_st (hW.rd hgm) (Nat.le_of_ble_eq_true rfl)) dX1_night_285 (fun H locs hW => ?_)
                have hW : wv g L σ14 s H locs := by rw [e15]; exact hW
                obtain ⟨hx0, hcs⟩ := lx_s (σ1 := σ14) hx0 hcs (by rw [e15]; exact kp_F)
                refine lv_iload_n hx hb dX1_night_288 rfl (lv_at hl 1 rfl) ?_
                have hs := ww_S hs
                exact wa_i hx hb hr hlocks hx0 hcs hW (congrArg Prod.fst hs) (congrArg Prod.snd hs) dX1_night_289
              · have hs := ww_F hs hc11
                refine lv_aload_n hx hb dX1_night_186 rfl (lv_at hl 0 rfl) ?_
                refine gf_X1_127 hx hb hts hown hW (pr_st (hW.rd hgm) (Nat.le_of_ble_eq_true rfl)) (hW.fl hgm (pr_st (hW.rd hgm) (Nat.le_of_ble_eq_true rfl)) 24 (by decide) rfl (by decide)) dX1_night_187 ?_
                refine lv_iload_n hx hb dX1_night_190 rfl (lv_at hl 2 rfl) ?_
                obtain ⟨hc16, hs⟩ := ww_chk hs
                refine ww_iald hx hb hW 32 2 (pr_st (hW.rd hgm) (Nat.le_of_ble_eq_true rfl)) rfl hc16 dX1_night_191 ?_
                refine lv_if_le (tgt := 233) hx hb dX1_night_192 (by decide) (fun hc17 => ?_) (fun hc17 => ?_)
                · have hs := ww_T hs hc17
                  exact hL233 L σ x1 x2 _ _ _ _ ls hx0 hcs hrm hW (lv_sub hl [0, 1, 2] rfl) hs
                · have hs := ww_F hs hc17
                  refine lv_aload_n hx hb dX1_night_195 rfl (lv_at hl 0 rfl) ?_
                  refine gf_X1_75 hx hb hts hown hW (pr_st (hW.rd hgm) (Nat.le_of_ble_eq_true rfl)) (hW.fl hgm (pr_st (hW.rd hgm) (Nat.le_of_ble_eq_true rfl)) 7 (by decide) rfl (by decide)) dX1_night_196 ?_
                  refine ww_ci (va_runV (As := []) (rest := []) ⟨hx, hb, hml, hown, hts⟩ (c_AL_size g hgm l L σ 72 0 73 rfl rfl (pr_st (hW.rd hgm) (Nat.le_of_ble_eq_true rfl))) (cwV 0 hts (lw_V q514 q515 q516 q117 q517) rfl rfl rfl hd_J2_size ⟨(Nat.le_of_ble_eq_true rfl), (Nat.le_of_ble_eq_true rfl)⟩) (ww_preV hW (pr_st (hW.rd hgm) (Nat.le_of_ble_eq_true rfl)) (obv_0 rfl) rfl) rfl rfl hl.1 rfl (lv_room (Nat.le_of_ble_eq_true rfl)) dX1_night_199 hrm) hW (fun H locs hW => ?_)
                  refine lv_bipush (v := 60) hx hb dX1_night_202 (by decide) ?_
                  refine lv_icmp_ge (tgt := 233) hx hb dX1_night_204 (by decide) (fun hc18 => ?_) (fun hc18 => ?_)
                  · have hs := ww_T hs hc18
                    exact hL233 L σ x1 x2 _ _ _ _ ls hx0 hcs hrm hW (lv_sub hl [0, 1, 2] rfl) hs
                  · have hs := ww_F hs hc18
                    refine lv_aload_n hx hb dX1_night_207 rfl (lv_at hl 0 rfl) ?_
                    refine gf_X1_75 hx hb hts hown hW (pr_st (hW.rd hgm) (Nat.le_of_ble_eq_true rfl)) (hW.fl hgm (pr_st (hW.rd hgm) (Nat.le_of_ble_eq_true rfl)) 7 (by decide) rfl (by decide)) dX1_night_208 ?_
                    have hW := hW.raw
                    obtain ⟨hc19, hs⟩ := ww_chk hs
                    have hp20 : pr σ 1 0 := (pr_dy hc19 rfl rfl)
                    obtain ⟨hc21, hs⟩ := ww_chk hs
                    have hp22 : pr σ 72 0 := (pr_dy hc21 rfl rfl)
                    obtain ⟨σ23, e24, hs⟩ := ww_let hs
                    obtain ⟨hs, hck⟩ := ww_ck2 hs
                    have hrm1 := hcs.room (σ1 := σ23) (a := 1) (b := 4) (by rw [e24]; rfl) (by rw [e24]; rfl) hck
                    refine ww_newo (ci := 6) hx hb hts in_X17 tyX17 tyX17_ok hown (hts _ q606) (hts _ q607) (hts _ q147) hW 83 0 (obv_0 rfl) rfl df_83 (Nat.le_of_ble_eq_true rfl) rfl sole_83 (Or.inl rfl) (Or.inl rfl) hrm1.1 hrm1.2 dX1_night_211 (fun H L hx1 hW => ?_)
                    rw [← e24] at hx1 hW
                    have hcs := hcs.more (σ1 := σ23) (a := 1) (b := 4) (by rw [e24]; rfl) (by rw [e24]; rfl)
                    have hrm := hrm1
                    have hc25 : 0 < gN_ σ23 1 := Nat.lt_of_lt_of_le hc19 (hx1.2.1 1)
                    have hc26 : 0 < gN_ σ23 72 := Nat.lt_of_lt_of_le hc21 (hx1.2.1 72)
                    have hc27 : gN_ σ 83 < gN_ σ23 83 := by rw [e24]; exact nO_lt rfl
                    rw [show ow_ 83 = 83 from rfl]
                    have hl : lv_has ls 5 [(0, .ref (L 1 0)), (1, .int x1), (2, .int x2)] := by rw [hx1.at hp20 (by decide)]; exact hl
                    refine ww_stk (st1 := [.ref (L 83 (gN_ σ 83)), .ref (L 72 0)]) (by rw [hx1.at hp22 (by decide)]) ?_
                    have hx0 := hx0.trans hx1
                    refine lv_dup hx hb dX1_night_214 rfl ?_
                    refine lv_iload_n hx hb dX1_night_215 rfl (lv_at hl 2 rfl) ?_
                    refine lv_aload_n hx hb dX1_night_216 rfl (lv_at hl 0 rfl) ?_
                    refine gf_X1_325 hx hb hts hown hW (pr_dy hc25 rfl rfl) dX1_night_217 ?_
                    refine lv_aload_n hx hb dX1_night_220 rfl (lv_at hl 0 rfl) ?_
                    obtain ⟨hc28, hs⟩ := ww_chk hs
                    refine gf_X1_127 hx hb hts hown hW (pr_dy hc25 rfl rfl) hc28 dX1_night_221 ?_
                    refine lv_iload_n hx hb dX1_night_224 rfl (lv_at hl 2 rfl) ?_
                    obtain ⟨hc29, hs⟩ := ww_chk hs
                    refine ww_iald hx hb hW 32 2 (pr_dy hc29 rfl rfl) rfl hc16 dX1_night_225 ?_
                    obtain ⟨σ32, hc30, hs⟩ := ww_bnd hs
                    have hp33 : pr σ23 1 0 := (pr_dy hc25 rfl rfl)
                    have hp34 : pr σ23 72 0 := (pr_dy hc26 rfl rfl)
                    have hp35 : pr σ23 83 (gN_ σ 83) := (pr_dy hc27 rfl rfl)
                    obtain ⟨hc36, hs⟩ := ww_chk hs
                    obtain ⟨hs, hck⟩ := ww_ck2 hs
                    have hrm1 := hcs.roomC hc36 hck
                    refine wa_cv (va_runI (As := [.int x2, .int (gF_ σ23 1 33 0), .int (gA_ σ23 32 2 x2.toNatClampNeg)]) (rest := [.ref (L 83 (gN_ σ 83)), .ref (L 72 0)]) ⟨hx, hb, hml, hown, hts⟩ (c_X17_init (rw_ g) rfl l L σ23 (gN_ σ 83) x2 (gF_ σ23 1 33 0) (gA_ σ23 32 2 x2.toNatClampNeg) _ hc30) (cwI 3 hts (lw_meth q610) rfl rfl rfl (hts _ q147) (hts _ q608) (hts _ q609) rfl hd_X17_init.2 ⟨(Nat.le_of_ble_eq_true rfl), (Nat.le_of_ble_eq_true rfl)⟩) (ww_preS hW) rfl rfl hl.1 rfl (lv_room (Nat.le_of_ble_eq_true rfl)) dX1_night_226 hrm1) hW (fun H locs L hx1 hW => ?_)
                    have hc37 : 0 < gN_ σ32 1 := Nat.lt_of_lt_of_le hc25 (hx1.2.1 1)
                    have hc38 : 0 < gN_ σ32 72 := Nat.lt_of_lt_of_le hc26 (hx1.2.1 72)
                    have hc39 : (gN_ σ 83) < gN_ σ32 83 := Nat.lt_of_lt_of_le hc27 (hx1.2.1 83)
                    have hc40 : 2 < gN_ σ32 32 := Nat.lt_of_lt_of_le hc29 (hx1.2.1 32)
                    have hcs := hcs.call hc36
                    have hrm := hrm1
                    have hl : lv_has ls 5 [(0, .ref (L 1 0)), (1, .int x1), (2, .int x2)] := by rw [hx1.at hp33 (by decide)]; exact hl
                    refine ww_stk (st1 := [.ref (L 83 (gN_ σ 83)), .ref (L 72 0)]) (by rw [hx1.at hp34 (by decide), hx1.at hp35 (by decide)]) ?_
                    have hx0 := hx0.trans hx1
                    obtain ⟨hrdy, hs⟩ := ww_pif hs
                    have hW := hW.ready hrdy
                    have hp41 : gP_ σ32 72 (200 + 1) 0 ≠ 0 := (hW.fl hgm (pr_st (hW.rd hgm) (Nat.le_of_ble_eq_true rfl)) 1 (by decide) rfl (by decide))
                    obtain ⟨σ42, hc43, hs⟩ := ww_bnd hs
                    have hp44 : pr σ32 1 0 := (pr_st (hW.rd hgm) (Nat.le_of_ble_eq_true rfl))
                    obtain ⟨hc45, hs⟩ := ww_chk hs
                    obtain ⟨hs, hck⟩ := ww_ck2 hs
                    have hrm1 := hcs.roomC hc45 hck
                    refine wa_ci (va_runV (As := [.ref (L 83 (gN_ σ 83))]) (rest := []) ⟨hx, hb, hml, hown, hts⟩ (c_AL_add g l L σ32 σ42 72 0 73 83 (gN_ σ 83) lst_72 eq_83 rfl (pr_st (hW.rd hgm) (Nat.le_of_ble_eq_true rfl)) (pr_dy hc39 rfl rfl) hp41 hc43 hc45) (cwV 1 hts (lw_V q713 q630 q631 q117 q632) rfl rfl rfl hd_J2_add ⟨(Nat.le_of_ble_eq_true rfl), (Nat.le_of_ble_eq_true rfl)⟩) (ww_preV hW (pr_st (hW.rd hgm) (Nat.le_of_ble_eq_true rfl)) (obv_0 rfl) rfl) rfl rfl hl.1 rfl (lv_room (Nat.le_of_ble_eq_true rfl)) dX1_night_229 hrm1) hW (fun H locs L hx1 hW => ?_)
                    have hc46 : 0 < gN_ σ42 1 := Nat.lt_of_lt_of_le hc37 (hx1.2.1 1)
                    have hc47 : 0 < gN_ σ42 72 := Nat.lt_of_lt_of_le hc38 (hx1.2.1 72)
                    have hc48 : (gN_ σ 83) < gN_ σ42 83 := Nat.lt_of_lt_of_le hc39 (hx1.2.1 83)
                    have hc49 : 2 < gN_ σ42 32 := Nat.lt_of_lt_of_le hc40 (hx1.2.1 32)
                    have hcs := hcs.call hc45
                    have hrm := hrm1
                    have hl : lv_has ls 5 [(0, .ref (L 1 0)), (1, .int x1), (2, .int x2)] := by rw [hx1.at hp44 (by decide)]; exact hl
                    have hx0 := hx0.trans hx1
                    refine lv_pop hx hb dX1_night_232 rfl ?_
                    exact hL233 L σ42 x1 x2 _ _ _ _ ls hx0 hcs hrm hW (lv_sub hl [0, 1, 2] rfl) hs
          have hL112 : ∀ (n112 : Nat), ∀ (L : ly_T) (σ : st_T) (x1 : Int32) (x2 : Int32) (x3 : Int32) (x4 : Int32) (H : Heap) (locs : List Loc) (cells slots : Nat) (ls : Array Slot), lext L0 σ0 L σ → bk σ0 σ cells slots → (cells ≤ cu_ σ_ - cu_ σ0 ∧ slots ≤ su_ σ_ - su_ σ0) → wv g L σ s H locs → lv_has ls 5 [(0, .ref (L 1 0)), (1, .int x1), (2, .int x2), (3, .int x3), (4, .int x4)] → (m_X1_night_L112 (m_X1_night_L77 n77) n112) σ x1 x2 x3 x4 = some (r_, σ_) → W p l e (wrA 17 523 σ0 σ_) s m args below meth c H locs cells slots (MQ below (wAi g L0 σ0 r_ σ_) args s (cu_ σ_ - cu_ σ0) (su_ σ_ - su_ σ0) (fun q => gz g ≤ q)) (F0 m 112 ls []) := by
            intro n112
            induction n112 with
            | zero => intro L σ x1 x2 x3 x4 H locs cells slots ls hx0 hcs hrm hW hl hs; rw [m_X1_night_L112] at hs; cases hs
            | succ n112 ih112 =>
              have hL150 : ∀ (L : ly_T) (σ : st_T) (x1 : Int32) (x2 : Int32) (x4 : Int32) (t0 : Int32) (t1 : Int32) (H : Heap) (locs : List Loc) (cells slots : Nat) (ls : Array Slot), lext L0 σ0 L σ → bk σ0 σ cells slots → (cells ≤ cu_ σ_ - cu_ σ0 ∧ slots ≤ su_ σ_ - su_ σ0) → wv g L σ s H locs → lv_has ls 5 [(0, .ref (L 1 0)), (1, .int x1), (2, .int x2), (4, .int x4)] → (m_X1_night_L150 (m_X1_night_L112 (m_X1_night_L77 n77) n112)) σ x1 x2 x4 t0 t1 = some (r_, σ_) → W p l e (wrA 17 523 σ0 σ_) s m args below meth c H locs cells slots (MQ below (wAi g L0 σ0 r_ σ_) args s (cu_ σ_ - cu_ σ0) (su_ σ_ - su_ σ0) (fun q => gz g ≤ q)) (F0 m 150 ls [.int t1, .int t0]) := by
                intro L σ x1 x2 x4 t0 t1 H locs cells slots ls hx0 hcs hrm hW hl hs
                unfold m_X1_night_L150 at hs
                refine lv_iadd hx hb dX1_night_150 ?_
                refine lv_istore_n (lv' := [(3, .int (t0 + t1)), (0, .ref (L 1 0)), (1, .int x1), (2, .int x2), (4, .int x4)]) hx hb dX1_night_151 rfl hl (by decide) rfl (fun ls hl => ?_)
                refine lv_iinc (v := (x4 + (1 : Int32))) (lv' := [(4, .int (x4 + (1 : Int32))), (3, .int (t0 + t1)), (0, .ref (L 1 0)), (1, .int x1), (2, .int x2)]) hx hb dX1_night_152 hl (k := 4) rfl rfl (by decide) rfl (fun ls hl => ?_)
                refine lv_goto (tgt := 112) hx hb dX1_night_155 (by decide) ?_
                exact ih112 L σ x1 x2 (t0 + t1) (x4 + (1 : Int32)) _ _ _ _ ls hx0 hcs hrm hW (lv_sub hl [2, 3, 4, 1, 0] rfl) hs
              intro L σ x1 x2 x3 x4 H locs cells slots ls hx0 hcs hrm hW hl hs
              rw [m_X1_night_L112] at hs
              refine lv_iload hx hb dX1_night_112 (lv_at hl 4 rfl) ?_
              refine lv_bipush (v := 10) hx hb dX1_night_114 (by decide) ?_
              refine lv_icmp_ge (tgt := 158) hx hb dX1_night_116 (by decide) (fun hc50 => ?_) (fun hc50 => ?_)
              · have hs := ww_T hs hc50
                refine lv_aload_n hx hb dX1_night_158 rfl (lv_at hl 0 rfl) ?_
                refine gf_X1_100 hx hb hts hown hW (pr_st (hW.rd hgm) (Nat.le_of_ble_eq_true rfl)) (hW.fl hgm (pr_st (hW.rd hgm) (Nat.le_of_ble_eq_true rfl)) 15 (by decide) rfl (by decide)) dX1_night_159 ?_
                refine lv_iload_n hx hb dX1_night_162 rfl (lv_at hl 2 rfl) ?_
                refine lv_dup2_11 hx hb dX1_night_163 rfl rfl ?_
                obtain ⟨hc51, hs⟩ := ww_chk hs
                refine ww_iald hx hb hW 25 0 (pr_st (hW.rd hgm) (Nat.le_of_ble_eq_true rfl)) rfl hc51 dX1_night_164 ?_
                refine lv_iconst (v := 0) hx hb dX1_night_165 (by decide) ?_
                refine lv_iload_n hx hb dX1_night_166 rfl (lv_at hl 3 rfl) ?_
                refine va_mmax hx hb (hml.trans hl.1.symm) hown (hts _ q603) (hts _ q604) (hts _ q134) (hts _ q605) (Nat.le_of_ble_eq_true rfl) (Nat.le_of_ble_eq_true rfl) hrm.1 hrm.2 dX1_night_167 ?_
                refine lv_iadd hx hb dX1_night_170 ?_
                obtain ⟨σ52, e53, hs⟩ := ww_let hs
                refine ww_iast hx hb hW 25 0 (pr_st (hW.rd hgm) (Nat.le_of_ble_eq_true rfl)) rfl hc51 dX1_night_171 (fun H locs hW => ?_)
                have hW : wv g L σ52 s H locs := by rw [e53]; exact hW
                obtain ⟨hx0, hcs⟩ := lx_s (σ1 := σ52) hx0 hcs (by rw [e53]; exact kp_E)
                refine lv_iinc (v := (x2 + (1 : Int32))) (lv' := [(2, .int (x2 + (1 : Int32))), (0, .ref (L 1 0)), (1, .int x1), (3, .int x3), (4, .int x4)]) hx hb dX1_night_172 hl (k := 2) rfl rfl (by decide) rfl (fun ls hl => ?_)
                refine lv_goto (tgt := 77) hx hb dX1_night_175 (by decide) ?_
                exact ih77 L σ52 x1 (x2 + (1 : Int32)) _ _ _ _ ls hx0 hcs hrm hW (lv_sub hl [1, 2, 0] rfl) hs
              · have hs := ww_F hs hc50
                refine lv_iload_n hx hb dX1_night_119 rfl (lv_at hl 3 rfl) ?_
                refine lv_aload_n hx hb dX1_night_120 rfl (lv_at hl 0 rfl) ?_
                refine gf_X1_84 hx hb hts hown hW (pr_st (hW.rd hgm) (Nat.le_of_ble_eq_true rfl)) (hW.fl hgm (pr_st (hW.rd hgm) (Nat.le_of_ble_eq_true rfl)) 10 (by decide) rfl (by decide)) dX1_night_121 ?_
                refine lv_iload hx hb dX1_night_124 (lv_at hl 4 rfl) ?_
                obtain ⟨hc54, hs⟩ := ww_chk hs
                refine ww_iald hx hb hW 20 0 (pr_st (hW.rd hgm) (Nat.le_of_ble_eq_true rfl)) rfl hc54 dX1_night_126 ?_
                refine lv_iload_n hx hb dX1_night_127 rfl (lv_at hl 2 rfl) ?_
                refine lv_icmp_ne (tgt := 135) hx hb dX1_night_128 (by decide) (fun hc55 => ?_) (fun hc55 => ?_)
                · have hs := ww_F hs hc55
                  refine lv_aload_n hx hb dX1_night_135 rfl (lv_at hl 0 rfl) ?_
                  refine gf_X1_127 hx hb hts hown hW (pr_st (hW.rd hgm) (Nat.le_of_ble_eq_true rfl)) (hW.fl hgm (pr_st (hW.rd hgm) (Nat.le_of_ble_eq_true rfl)) 24 (by decide) rfl (by decide)) dX1_night_136 ?_
                  refine lv_iload hx hb dX1_night_139 (lv_at hl 4 rfl) ?_
                  refine ww_iald hx hb hW 32 2 (pr_st (hW.rd hgm) (Nat.le_of_ble_eq_true rfl)) rfl hc54 dX1_night_141 ?_
                  refine lv_aload_n hx hb dX1_night_142 rfl (lv_at hl 0 rfl) ?_
                  refine gf_X1_124 hx hb hts hown hW (pr_st (hW.rd hgm) (Nat.le_of_ble_eq_true rfl)) (hW.fl hgm (pr_st (hW.rd hgm) (Nat.le_of_ble_eq_true rfl)) 23 (by decide) rfl (by decide)) dX1_night_143 ?_
                  refine lv_iload hx hb dX1_night_146 (lv_at hl 4 rfl) ?_
                  refine ww_iald hx hb hW 32 1 (pr_st (hW.rd hgm) (Nat.le_of_ble_eq_true rfl)) rfl hc54 dX1_night_148 ?_
                  refine lv_isub hx hb dX1_night_149 ?_
                  exact hL150 L σ x1 x2 x4 x3 ((gA_ σ 32 2 x4.toNatClampNeg) - (gA_ σ 32 1 x4.toNatClampNeg)) _ _ _ _ ls hx0 hcs hrm hW (lv_sub hl [0, 1, 2, 4] rfl) hs
                · have hs := ww_T hs hc55
                  refine lv_iconst (v := 0) hx hb dX1_night_131 (by decide) ?_
                  refine lv_goto (tgt := 150) hx hb dX1_night_132 (by decide) ?_
                  exact hL150 L σ x1 x2 x4 x3 (0 : Int32) _ _ _ _ ls hx0 hcs hrm hW (lv_sub hl [0, 1, 2, 4] rfl) hs
          intro L σ x1 x2 H locs cells slots ls hx0 hcs hrm hW hl hs
          rw [m_X1_night_L77] at hs
          refine lv_iload_n hx hb dX1_night_77 rfl (lv_at hl 2 rfl) ?_
          refine lv_iconst (v := 2) hx hb dX1_night_78 (by decide) ?_
          refine lv_icmp_ge (tgt := 178) hx hb dX1_night_79 (by decide) (fun hc56 => ?_) (fun hc56 => ?_)
          · have hs := ww_T hs hc56
            refine lv_iconst (v := 0) hx hb dX1_night_178 (by decide) ?_
            refine lv_istore_n (lv' := [(2, .int (0 : Int32)), (0, .ref (L 1 0)), (1, .int x1)]) hx hb dX1_night_179 rfl hl (by decide) rfl (fun ls hl => ?_)
            exact hL180 fu_ L σ x1 (0 : Int32) _ _ _ _ ls hx0 hcs hrm hW (lv_sub hl [1, 2, 0] rfl) hs
          · have hs := ww_F hs hc56
            refine lv_aload_n hx hb dX1_night_82 rfl (lv_at hl 0 rfl) ?_
            refine gf_X1_48 hx hb hts hown hW (pr_st (hW.rd hgm) (Nat.le_of_ble_eq_true rfl)) (hW.fl hgm (pr_st (hW.rd hgm) (Nat.le_of_ble_eq_true rfl)) 2 (by decide) rfl (by decide)) dX1_night_83 ?_
            refine lv_aload_n hx hb dX1_night_86 rfl (lv_at hl 0 rfl) ?_
            refine gf_X1_51 hx hb hts hown hW (pr_st (hW.rd hgm) (Nat.le_of_ble_eq_true rfl)) (hW.fl hgm (pr_st (hW.rd hgm) (Nat.le_of_ble_eq_true rfl)) 3 (by decide) rfl (by decide)) dX1_night_87 ?_
            obtain ⟨σ59, hc57, hs⟩ := ww_bnd hs
            obtain ⟨hkp, hs⟩ := ww_pif hs
            obtain ⟨hx0, hcs⟩ := lx_s hx0 hcs hkp
            refine ww_cv (va_runV (As := [.ref (L 50 2)]) (rest := []) ⟨hx, hb, hml, hown, hts⟩ (c_X2_like g hgm l L σ 1 2 _ hc57) (cwV 1 hts (lw_V q489 q490 q491 q112 q492) rfl rfl rfl hd_X2_like ⟨(Nat.le_of_ble_eq_true rfl), (Nat.le_of_ble_eq_true rfl)⟩) (ww_preV hW (pr_st (hW.rd hgm) (Nat.le_of_ble_eq_true rfl)) (obv_0 rfl) rfl) rfl rfl hl.1 rfl (lv_room (Nat.le_of_ble_eq_true rfl)) dX1_night_90 hrm) hW (fun H locs hW => ?_)
            refine lv_aload_n hx hb dX1_night_93 rfl (lv_at hl 0 rfl) ?_
            refine gf_X1_48 hx hb hts hown hW (pr_st (hW.rd hgm) (Nat.le_of_ble_eq_true rfl)) (hW.fl hgm (pr_st (hW.rd hgm) (Nat.le_of_ble_eq_true rfl)) 2 (by decide) rfl (by decide)) dX1_night_94 ?_
            refine lv_iload_n hx hb dX1_night_97 rfl (lv_at hl 2 rfl) ?_
            obtain ⟨σ62, hc60, hs⟩ := ww_bnd hs
            obtain ⟨hkp, hs⟩ := ww_pif hs
            obtain ⟨hx0, hcs⟩ := lx_s hx0 hcs hkp
            refine ww_cv (va_runV (As := [.int x2]) (rest := []) ⟨hx, hb, hml, hown, hts⟩ (c_X2_without g hgm l L σ59 1 x2 _ hc60) (cwV 1 hts (lw_V q595 q596 q597 q112 q598) rfl rfl rfl hd_X2_without ⟨(Nat.le_of_ble_eq_true rfl), (Nat.le_of_ble_eq_true rfl)⟩) (ww_preV hW (pr_st (hW.rd hgm) (Nat.le_of_ble_eq_true rfl)) (obv_0 rfl) rfl) rfl rfl hl.1 rfl (lv_room (Nat.le_of_ble_eq_true rfl)) dX1_night_98 hrm) hW (fun H locs hW => ?_)
            refine lv_aload_n hx hb dX1_night_101 rfl (lv_at hl 0 rfl) ?_
            refine lv_iconst (v := 1) hx hb dX1_night_102 (by decide) ?_
            obtain ⟨v65, σ66, hc63, hs⟩ := ww_bn2 hs
            obtain ⟨hkp, hs⟩ := ww_pif hs
            obtain ⟨hx0, hcs⟩ := lx_s hx0 hcs hkp
            refine ww_ci (va_runV (As := [.int (1 : Int32)]) (rest := []) ⟨hx, hb, hml, hown, hts⟩ (c_X1_foretells g hgm l L σ62 (1 : Int32) _ _ hc63) (cwV 1 hts (lw_V q599 q601 qs5 q111 q602) rfl rfl rfl hd_X1_foretells ⟨(Nat.le_of_ble_eq_true rfl), (Nat.le_of_ble_eq_true rfl)⟩) (ww_preV hW (pr_st (hW.rd hgm) (Nat.le_of_ble_eq_true rfl)) (obv_0 rfl) rfl) rfl rfl hl.1 rfl (lv_room (Nat.le_of_ble_eq_true rfl)) dX1_night_103 hrm) hW (fun H locs hW => ?_)
            refine lv_pop hx hb dX1_night_106 rfl ?_
            refine lv_iconst (v := 0) hx hb dX1_night_107 (by decide) ?_
            refine lv_istore_n (lv' := [(3, .int (0 : Int32)), (0, .ref (L 1 0)), (1, .int x1), (2, .int x2)]) hx hb dX1_night_108 rfl hl (by decide) rfl (fun ls hl => ?_)
            refine lv_iconst (v := 0) hx hb dX1_night_109 (by decide) ?_
            refine lv_istore (lv' := [(4, .int (0 : Int32)), (3, .int (0 : Int32)), (0, .ref (L 1 0)), (1, .int x1), (2, .int x2)]) hx hb dX1_night_110 hl (by decide) rfl (fun ls hl => ?_)
            exact hL112 fu_ L σ66 x1 x2 (0 : Int32) (0 : Int32) _ _ _ _ ls hx0 hcs hrm hW (lv_sub hl [2, 3, 4, 1, 0] rfl) hs
      intro L σ x1 H locs cells slots ls hx0 hcs hrm hW hl hs
      rw [m_X1_night_L21] at hs
      refine lv_iload_n hx hb dX1_night_21 rfl (lv_at hl 1 rfl) ?_
      refine lv_bipush (v := 10) hx hb dX1_night_22 (by decide) ?_
      refine lv_icmp_ge (tgt := 40) hx hb dX1_night_24 (by decide) (fun hc67 => ?_) (fun hc67 => ?_)
      · have hs := ww_T hs hc67
        refine lv_aload_n hx hb dX1_night_40 rfl (lv_at hl 0 rfl) ?_
        refine lv_aload_n hx hb dX1_night_41 rfl (lv_at hl 0 rfl) ?_
        refine gf_X1_44 hx hb hts hown hW (pr_st (hW.rd hgm) (Nat.le_of_ble_eq_true rfl)) (hW.fl hgm (pr_st (hW.rd hgm) (Nat.le_of_ble_eq_true rfl)) 1 (by decide) rfl (by decide)) dX1_night_42 ?_
        obtain ⟨σ70, hc68, hs⟩ := ww_bnd hs
        obtain ⟨hkp, hs⟩ := ww_pif hs
        obtain ⟨hx0, hcs⟩ := lx_s hx0 hcs hkp
        refine ww_cv (va_runV (As := [.ref (L 50 0)]) (rest := []) ⟨hx, hb, hml, hown, hts⟩ (c_X1_watch g hgm l L σ 0 _ hc68) (cwV 1 hts (lw_V q496 q498 qs0 q111 q499) rfl rfl rfl hd_X1_watch ⟨(Nat.le_of_ble_eq_true rfl), (Nat.le_of_ble_eq_true rfl)⟩) (ww_preV hW (pr_st (hW.rd hgm) (Nat.le_of_ble_eq_true rfl)) (obv_0 rfl) rfl) rfl rfl hl.1 rfl (lv_room (Nat.le_of_ble_eq_true rfl)) dX1_night_45 hrm) hW (fun H locs hW => ?_)
        refine lv_aload_n hx hb dX1_night_48 rfl (lv_at hl 0 rfl) ?_
        refine lv_aload_n hx hb dX1_night_49 rfl (lv_at hl 0 rfl) ?_
        refine gf_X1_44 hx hb hts hown hW (pr_st (hW.rd hgm) (Nat.le_of_ble_eq_true rfl)) (hW.fl hgm (pr_st (hW.rd hgm) (Nat.le_of_ble_eq_true rfl)) 1 (by decide) rfl (by decide)) dX1_night_50 ?_
        refine lv_aload_n hx hb dX1_night_53 rfl (lv_at hl 0 rfl) ?_
        refine gf_X1_325 hx hb hts hown hW (pr_st (hW.rd hgm) (Nat.le_of_ble_eq_true rfl)) dX1_night_54 ?_
        obtain ⟨v73, σ74, hc71, hs⟩ := ww_bn2 hs
        obtain ⟨hkp, hs⟩ := ww_pif hs
        obtain ⟨hx0, hcs⟩ := lx_s hx0 hcs hkp
        refine ww_ci (va_runV (As := [.ref (L 50 0), .int (gF_ σ70 1 33 0)]) (rest := []) ⟨hx, hb, hml, hown, hts⟩ (c_X1_comes g hgm l L σ70 0 (gF_ σ70 1 33 0) _ _ hc71) (cwV 2 hts (lw_V q510 q512 qs1 q111 q513) rfl rfl rfl hd_X1_comes ⟨(Nat.le_of_ble_eq_true rfl), (Nat.le_of_ble_eq_true rfl)⟩) (ww_preV hW (pr_st (hW.rd hgm) (Nat.le_of_ble_eq_true rfl)) (obv_0 rfl) rfl) rfl rfl hl.1 rfl (lv_room (Nat.le_of_ble_eq_true rfl)) dX1_night_57 hrm) hW (fun H locs hW => ?_)
        refine lv_istore_n (lv' := [(1, .int v73), (0, .ref (L 1 0))]) hx hb dX1_night_60 rfl hl (by decide) rfl (fun ls hl => ?_)
        refine lv_aload_n hx hb dX1_night_61 rfl (lv_at hl 1 rfl) ?_
        refine gf_X1_44 hx hb hts hown hW (pr_st (hW.rd hgm) (Nat.le_of_ble_eq_true rfl)) (hW.fl hgm (pr_st (hW.rd hgm) (Nat.le_of_ble_eq_true rfl)) 1 (by decide) rfl (by decide)) dX1_night_62 ?_
        refine lv_aload_n hx hb dX1_night_65 rfl (lv_at hl 1 rfl) ?_
        refine gf_X1_156 hx hb hts hown hW (pr_st (hW.rd hgm) (Nat.le_of_ble_eq_true rfl)) (hW.fl hgm (pr_st (hW.rd hgm) (Nat.le_of_ble_eq_true rfl)) 31 (by decide) rfl (by decide)) dX1_night_66 ?_
        obtain ⟨hc75, hs⟩ := ww_chk hs
        refine gf_X1_332 hx hb hts hown hW (pr_dy hc75 rfl rfl) dX1_night_69 ?_
        obtain ⟨σ78, hc76, hs⟩ := ww_bnd hs
        obtain ⟨hkp, hs⟩ := ww_pif hs
        obtain ⟨hx0, hcs⟩ := lx_s hx0 hcs hkp
        refine ww_cv (va_runV (As := [.int (gF_ σ74 87 5 (gP_ σ74 1 31 0))]) (rest := []) ⟨hx, hb, hml, hown, hts⟩ (c_X2_wears g hgm l L σ74 0 (gF_ σ74 87 5 (gP_ σ74 1 31 0)) _ hc76) (cwV 1 hts (lw_V q591 q592 q593 q112 q594) rfl rfl rfl hd_X2_wears ⟨(Nat.le_of_ble_eq_true rfl), (Nat.le_of_ble_eq_true rfl)⟩) (ww_preV hW (pr_st (hW.rd hgm) (Nat.le_of_ble_eq_true rfl)) (obv_0 rfl) rfl) rfl rfl hl.1 rfl (lv_room (Nat.le_of_ble_eq_true rfl)) dX1_night_72 hrm) hW (fun H locs hW => ?_)
        refine lv_iconst (v := 0) hx hb dX1_night_75 (by decide) ?_
        refine lv_istore_n (lv' := [(2, .int (0 : Int32)), (1, .int v73), (0, .ref (L 1 0))]) hx hb dX1_night_76 rfl hl (by decide) rfl (fun ls hl => ?_)
        exact hL77 fu_ L σ78 v73 (0 : Int32) _ _ _ _ ls hx0 hcs hrm hW (lv_sub hl [2, 1, 0] rfl) hs
      · have hs := ww_F hs hc67
        refine lv_aload_n hx hb dX1_night_27 rfl (lv_at hl 0 rfl) ?_
        refine gf_X1_121 hx hb hts hown hW (pr_st (hW.rd hgm) (Nat.le_of_ble_eq_true rfl)) (hW.fl hgm (pr_st (hW.rd hgm) (Nat.le_of_ble_eq_true rfl)) 22 (by decide) rfl (by decide)) dX1_night_28 ?_
        refine lv_iload_n hx hb dX1_night_31 rfl (lv_at hl 1 rfl) ?_
        refine lv_iconst (v := 0) hx hb dX1_night_32 (by decide) ?_
        obtain ⟨hc79, hs⟩ := ww_chk hs
        obtain ⟨hc80, hs⟩ := ww_chk hs
        obtain ⟨σ81, e82, hs⟩ := ww_let hs
        refine ww_iast hx hb hW 32 (gP_ σ 1 22 0) (pr_st (hW.rd hgm) hc79) rfl hc80 dX1_night_33 (fun H locs hW => ?_)
        have hW : wv g L σ81 s H locs := by rw [e82]; exact hW
        obtain ⟨hx0, hcs⟩ := lx_s (σ1 := σ81) hx0 hcs (by rw [e82]; exact kp_E)
        refine lv_iinc (v := (x1 + (1 : Int32))) (lv' := [(1, .int (x1 + (1 : Int32))), (0, .ref (L 1 0))]) hx hb dX1_night_34 hl (k := 1) rfl rfl (by decide) rfl (fun ls hl => ?_)
        refine lv_goto (tgt := 21) hx hb dX1_night_37 (by decide) ?_
        exact ih21 L σ81 (x1 + (1 : Int32)) _ _ _ _ ls hx0 hcs hrm hW (lv_sub hl [1, 0] rfl) hs
  refine lv_aload_n hx hb dX1_night_0 rfl (lv_at hl 0 rfl) ?_
  refine gf_X1_51 hx hb hts hown hW (pr_st (hW.rd hgm) (Nat.le_of_ble_eq_true rfl)) (hW.fl hgm (pr_st (hW.rd hgm) (Nat.le_of_ble_eq_true rfl)) 3 (by decide) rfl (by decide)) dX1_night_1 ?_
  refine lv_aload_n hx hb dX1_night_4 rfl (lv_at hl 0 rfl) ?_
  refine gf_X1_44 hx hb hts hown hW (pr_st (hW.rd hgm) (Nat.le_of_ble_eq_true rfl)) (hW.fl hgm (pr_st (hW.rd hgm) (Nat.le_of_ble_eq_true rfl)) 1 (by decide) rfl (by decide)) dX1_night_5 ?_
  obtain ⟨σ85, hc83, hs⟩ := ww_bnd hs
  obtain ⟨hkp, hs⟩ := ww_pif hs
  obtain ⟨hx0, hcs⟩ := lx_s hx0 hcs hkp
  refine ww_cv (va_runV (As := [.ref (L 50 0)]) (rest := []) ⟨hx, hb, hml, hown, hts⟩ (c_X2_like g hgm l L σ 2 0 _ hc83) (cwV 1 hts (lw_V q489 q490 q491 q112 q492) rfl rfl rfl hd_X2_like ⟨(Nat.le_of_ble_eq_true rfl), (Nat.le_of_ble_eq_true rfl)⟩) (ww_preV hW (pr_st (hW.rd hgm) (Nat.le_of_ble_eq_true rfl)) (obv_0 rfl) rfl) rfl rfl hl.1 rfl (lv_room (Nat.le_of_ble_eq_true rfl)) dX1_night_8 hrm) hW (fun H locs hW => ?_)
  refine lv_aload_n hx hb dX1_night_11 rfl (lv_at hl 0 rfl) ?_
  refine lv_aload_n hx hb dX1_night_12 rfl (lv_at hl 0 rfl) ?_
  refine gf_X1_127 hx hb hts hown hW (pr_st (hW.rd hgm) (Nat.le_of_ble_eq_true rfl)) (hW.fl hgm (pr_st (hW.rd hgm) (Nat.le_of_ble_eq_true rfl)) 24 (by decide) rfl (by decide)) dX1_night_13 ?_
  obtain ⟨σ86, e87, hs⟩ := ww_let hs
  refine pf_X1_121 hx hb hts hown hW (pr_st (hW.rd hgm) (Nat.le_of_ble_eq_true rfl)) (pr_st (hW.rd hgm) (Nat.le_of_ble_eq_true rfl)) (hW.fl hgm (pr_st (hW.rd hgm) (Nat.le_of_ble_eq_true rfl)) 22 (by decide) rfl (by decide)) dX1_night_16 (fun H locs hW => ?_)
  have hW : wv g L σ86 s H locs := by rw [e87]; exact hW
  obtain ⟨hx0, hcs⟩ := lx_s (σ1 := σ86) hx0 hcs (by rw [e87]; exact (kp_P (by decide)))
  refine lv_iconst (v := 0) hx hb dX1_night_19 (by decide) ?_
  refine lv_istore_n (lv' := [(1, .int (0 : Int32)), (0, .ref (L 1 0))]) hx hb dX1_night_20 rfl hl (by decide) rfl (fun ls hl => ?_)
  exact hL21 fu_ L σ86 (0 : Int32) _ _ _ _ ls hx0 hcs hrm hW (lv_sub hl [1, 0] rfl) hs
set_option maxHeartbeats 4000000 in
theorem c_X1_rota (g : wg_T) (hgm : gm g = true) (l : Launch) (L : ly_T) (σ : st_T) (a1 : Int32) (a2 : Int32) (a3 : Int32) (a4 : Int32) (hst : l.stackTraces = false) (o_ : Nat ⊕ Int32) (σ_ : st_T) (hs : m_X1_rota σ a1 a2 a3 a4 = some (o_, σ_)) : YI g l yX1_rota (ws_ yX1_rota cX1_rota 8 (some .int)) 30 818 [.ref (L 1 0), .int a1, .int a2, .int a3, .int a4] L σ o_ σ_ := by
  refine xbody.met (by decide) (Nat.le_of_ble_eq_true rfl) ?_
  intro p e s m args below meth c ls hx hb hr hml hlocks hts hown hnm hout hW hl
  have hown : s.vm.findClass RX1 = some m.cls := hown
  obtain ⟨L0, hL0⟩ : ∃ L0, L0 = L := ⟨_, rfl⟩
  obtain ⟨σ0, hσ0⟩ : ∃ σ0, σ0 = σ := ⟨_, rfl⟩
  rw [← hσ0, ← hL0]
  have hx0 : lext L0 σ0 L σ := by rw [hL0, hσ0]; exact lext.refl
  have hcs : bk σ0 σ 0 0 := bk.start hσ0
  have hrm : 0 ≤ cu_ σ_ - cu_ σ0 ∧ 0 ≤ su_ σ_ - su_ σ0 := ⟨Nat.zero_le _, Nat.zero_le _⟩
  have hl : lv_has ls 8 [(0, .ref (L 1 0)), (1, .int a1), (2, .int a2), (3, .int a3), (4, .int a4)] := hl
  unfold m_X1_rota at hs
  have hL21 : ∀ (L : ly_T) (σ : st_T) (x1 : Int32) (x2 : Int32) (x3 : Int32) (x4 : Int32) (t0 : Int32) (H : Heap) (locs : List Loc) (cells slots : Nat) (ls : Array Slot), lext L0 σ0 L σ → bk σ0 σ cells slots → (cells ≤ cu_ σ_ - cu_ σ0 ∧ slots ≤ su_ σ_ - su_ σ0) → wv g L σ s H locs → lv_has ls 8 [(0, .ref (L 1 0)), (1, .int x1), (2, .int x2), (3, .int x3), (4, .int x4)] → m_X1_rota_L21 σ x1 x2 x3 x4 t0 = some (o_, σ_) → W p l e (wrA 30 818 σ0 σ_) s m args below meth c H locs cells slots (vx_MQ below (yXi g L0 σ0 o_ σ_) (yX g L0 σ0 o_ σ_) args s (cu_ σ_ - cu_ σ0) (su_ σ_ - su_ σ0) (fun q => gz g ≤ q)) (F0 m 21 ls [.int t0]) := by
    have hL43 : ∀ (n43 : Nat), ∀ (L : ly_T) (σ : st_T) (x3 : Int32) (x4 : Int32) (ix5 : Nat) (x6 : Int32) (x7 : Int32) (H : Heap) (locs : List Loc) (cells slots : Nat) (ls : Array Slot), lext L0 σ0 L σ → bk σ0 σ cells slots → (cells ≤ cu_ σ_ - cu_ σ0 ∧ slots ≤ su_ σ_ - su_ σ0) → wv g L σ s H locs → lv_has ls 8 [(3, .int x3), (4, .int x4), (5, .ref (L 92 ix5)), (6, .int x6), (7, .int x7)] → (m_X1_rota_L43 n43) σ x3 x4 ix5 x6 x7 = some (o_, σ_) → W p l e (wrA 30 818 σ0 σ_) s m args below meth c H locs cells slots (vx_MQ below (yXi g L0 σ0 o_ σ_) (yX g L0 σ0 o_ σ_) args s (cu_ σ_ - cu_ σ0) (su_ σ_ - su_ σ0) (fun q => gz g ≤ q)) (F0 m 43 ls []) := by
      intro n43
      induction n43 with
      | zero => intro L σ x3 x4 ix5 x6 x7 H locs cells slots ls hx0 hcs hrm hW hl hs; rw [m_X1_rota_L43] at hs; cases hs
      | succ n43 ih43 =>
        have hL98 : ∀ (L : ly_T) (σ : st_T)  (H : Heap) (locs : List Loc) (cells slots : Nat) (ls : Array Slot), lext L0 σ0 L σ → bk σ0 σ cells slots → (cells ≤ cu_ σ_ - cu_ σ0 ∧ slots ≤ su_ σ_ - su_ σ0) → wv g L σ s H locs → lv_has ls 8 [] → m_X1_rota_L98 σ = some (o_, σ_) → W p l e (wrA 30 818 σ0 σ_) s m args below meth c H locs cells slots (vx_MQ below (yXi g L0 σ0 o_ σ_) (yX g L0 σ0 o_ σ_) args s (cu_ σ_ - cu_ σ0) (su_ σ_ - su_ σ0) (fun q => gz g ≤ q)) (F0 m 98 ls []) := by
          intro L σ H locs cells slots ls hx0 hcs hrm hW hl hs
          unfold m_X1_rota_L98 at hs
          refine lv_iconst (v := (-1)) hx hb dX1_rota_98 (by decide) ?_
          have hs := ww_S hs
          exact wz_i hx hb hr hlocks hx0 hcs hW (congrArg Prod.fst hs) (congrArg Prod.snd hs) dX1_rota_99
        have hL92 : ∀ (L : ly_T) (σ : st_T) (x3 : Int32) (x4 : Int32) (ix5 : Nat) (x6 : Int32) (x7 : Int32) (H : Heap) (locs : List Loc) (cells slots : Nat) (ls : Array Slot), lext L0 σ0 L σ → bk σ0 σ cells slots → (cells ≤ cu_ σ_ - cu_ σ0 ∧ slots ≤ su_ σ_ - su_ σ0) → wv g L σ s H locs → lv_has ls 8 [(3, .int x3), (4, .int x4), (5, .ref (L 92 ix5)), (6, .int x6), (7, .int x7)] → (m_X1_rota_L92 (m_X1_rota_L43 n43)) σ x3 x4 ix5 x6 x7 = some (o_, σ_) → W p l e (wrA 30 818 σ0 σ_) s m args below meth c H locs cells slots (vx_MQ below (yXi g L0 σ0 o_ σ_) (yX g L0 σ0 o_ σ_) args s (cu_ σ_ - cu_ σ0) (su_ σ_ - su_ σ0) (fun q => gz g ≤ q)) (F0 m 92 ls []) := by
          intro L σ x3 x4 ix5 x6 x7 H locs cells slots ls hx0 hcs hrm hW hl hs
          unfold m_X1_rota_L92 at hs
          refine lv_iinc (v := (x7 + (1 : Int32))) (lv' := [(7, .int (x7 + (1 : Int32))), (3, .int x3), (4, .int x4), (5, .ref (L 92 ix5)), (6, .int x6)]) hx hb dX1_rota_92 hl (k := 4) rfl rfl (by decide) rfl (fun ls hl => ?_)
          refine lv_goto (tgt := 43) hx hb dX1_rota_95 (by decide) ?_
          exact ih43 L σ x3 x4 ix5 x6 (x7 + (1 : Int32)) _ _ _ _ ls hx0 hcs hrm hW (lv_sub hl [1, 2, 3, 4, 0] rfl) hs
        intro L σ x3 x4 ix5 x6 x7 H locs cells slots ls hx0 hcs hrm hW hl hs
        rw [m_X1_rota_L43] at hs
        refine lv_iload hx hb dX1_rota_43 (lv_at hl 4 rfl) ?_
        refine lv_bipush (v := 10) hx hb dX1_rota_45 (by decide) ?_
        refine lv_icmp_ge (tgt := 98) hx hb dX1_rota_47 (by decide) (fun hc1 => ?_) (fun hc1 => ?_)
        · have hs := ww_T hs hc1
          exact hL98 L σ _ _ _ _ ls hx0 hcs hrm hW (lv_sub hl [] rfl) hs
        · have hs := ww_F hs hc1
          refine lv_iload hx hb dX1_rota_50 (lv_at hl 1 rfl) ?_
          refine lv_if_lt (tgt := 98) hx hb dX1_rota_52 (by decide) (fun hc2 => ?_) (fun hc2 => ?_)
          · have hs := ww_T hs hc2
            exact hL98 L σ _ _ _ _ ls hx0 hcs hrm hW (lv_sub hl [] rfl) hs
          · have hs := ww_F hs hc2
            refine lv_aload hx hb dX1_rota_55 (lv_at hl 2 rfl) ?_
            obtain ⟨hc3, hs⟩ := ww_chk hs
            refine gf_X1_383 hx hb hts hown hW (pr_dy hc3 rfl rfl) dX1_rota_57 ?_
            refine lv_if_eq (tgt := 98) hx hb dX1_rota_60 (by decide) (fun hc4 => ?_) (fun hc4 => ?_)
            · have hs := ww_T hs hc4
              exact hL98 L σ _ _ _ _ ls hx0 hcs hrm hW (lv_sub hl [] rfl) hs
            · have hs := ww_F hs hc4
              refine lv_aload hx hb dX1_rota_63 (lv_at hl 2 rfl) ?_
              refine gf_X1_387 hx hb hts hown hW (pr_dy hc3 rfl rfl) (hW.fl hgm (pr_dy hc3 rfl rfl) 3 (by decide) rfl (by decide)) dX1_rota_65 ?_
              refine lv_iload_n hx hb dX1_rota_68 rfl (lv_at hl 0 rfl) ?_
              obtain ⟨hc5, hs⟩ := ww_chk hs
              obtain ⟨hc6, hs⟩ := ww_chk hs
              refine ww_ialdV hx hb hW 94 ix5 (pr_dy hc5 rfl rfl) rfl hc6 dX1_rota_69 ?_
              refine lv_iload hx hb dX1_rota_70 (lv_at hl 4 rfl) ?_
              refine lv_ishr hx hb dX1_rota_72 ?_
              refine lv_iconst (v := 1) hx hb dX1_rota_73 (by decide) ?_
              refine lv_iand hx hb dX1_rota_74 ?_
              refine lv_if_ne (tgt := 81) hx hb dX1_rota_75 (by decide) (fun hc7 => ?_) (fun hc7 => ?_)
              · have hs := ww_F hs hc7
                refine lv_iload hx hb dX1_rota_81 (lv_at hl 3 rfl) ?_
                refine lv_if_ne (tgt := 89) hx hb dX1_rota_83 (by decide) (fun hc8 => ?_) (fun hc8 => ?_)
                · have hs := ww_F hs hc8
                  refine lv_iinc (v := (x6 + (-1 : Int32))) (lv' := [(6, .int (x6 + (-1 : Int32))), (3, .int x3), (4, .int x4), (5, .ref (L 92 ix5)), (7, .int x7)]) hx hb dX1_rota_89 hl (k := 3) rfl rfl (by decide) rfl (fun ls hl => ?_)
                  exact hL92 L σ x3 x4 ix5 (x6 + (-1 : Int32)) x7 _ _ _ _ ls hx0 hcs hrm hW (lv_sub hl [1, 2, 3, 0, 4] rfl) hs
                · have hs := ww_T hs hc8
                  refine lv_iload hx hb dX1_rota_86 (lv_at hl 4 rfl) ?_
                  have hs := ww_S hs
                  exact wz_i hx hb hr hlocks hx0 hcs hW (congrArg Prod.fst hs) (congrArg Prod.snd hs) dX1_rota_88
              · have hs := ww_T hs hc7
                refine lv_goto (tgt := 92) hx hb dX1_rota_78 (by decide) ?_
                exact hL92 L σ x3 x4 ix5 x6 x7 _ _ _ _ ls hx0 hcs hrm hW (lv_sub hl [0, 1, 2, 3, 4] rfl) hs
    intro L σ x1 x2 x3 x4 t0 H locs cells slots ls hx0 hcs hrm hW hl hs
    unfold m_X1_rota_L21 at hs
    obtain ⟨o11, hc9, hs⟩ := ww_bnd hs
    rcases o11 with k12 | v13
    · have hs := ww_sL hs
      have hs := ww_S hs
      have e1 : o_ = .inl k12 := congrArg Prod.fst hs
      have e2 : σ_ = bX_ σ := congrArg Prod.snd hs
      subst e1
      have hrmx := hcs.room (σ1 := bX_ σ) (σ_ := σ_) (a := 1) (b := 6) rfl rfl (by rw [e2]; exact ⟨Nat.le_refl _, Nat.le_refl _⟩)
      exact wz_prop (vx_runS (As := [.int t0]) (rest := []) ⟨hx, hb, hml, hown, hts⟩ (c_X1_wrong g hgm l L σ t0 hst _ hc9) (va_cwS 1 hts (lw_S q848 q849 q111 q850) rfl rfl rfl hd_X1_wrong.2 ⟨(Nat.le_of_ble_eq_true rfl), (Nat.le_of_ble_eq_true rfl)⟩) (ww_preS hW) rfl rfl hl.1 rfl (lv_room (Nat.le_of_ble_eq_true rfl)) dX1_rota_21 hrmx) no_v hx0 hW hlocks hout rfl e2 hrmx
    · have hs := ww_sR hs
      refine ww_xv0 (vx_runS (As := [.int t0]) (rest := []) ⟨hx, hb, hml, hown, hts⟩ (c_X1_wrong g hgm l L σ t0 hst _ hc9) (va_cwS 1 hts (lw_S q848 q849 q111 q850) rfl rfl rfl hd_X1_wrong.2 ⟨(Nat.le_of_ble_eq_true rfl), (Nat.le_of_ble_eq_true rfl)⟩) (ww_preS hW) rfl rfl hl.1 rfl (lv_room (Nat.le_of_ble_eq_true rfl)) dX1_rota_21 hrm) hW (fun H locs hW => ?_)
      have hW := hW.raw
      obtain ⟨hc14, hs⟩ := ww_chk hs
      have hp15 : pr σ 1 0 := (pr_dy hc14 rfl rfl)
      obtain ⟨σ16, e17, hs⟩ := ww_let hs
      obtain ⟨hs, hck⟩ := ww_ck2 hs
      have hrm1 := hcs.room (σ1 := σ16) (a := 1) (b := 10) (by rw [e17]; rfl) (by rw [e17]; rfl) hck
      refine ww_newo (ci := 11) hx hb hts in_X19 tyX19 tyX19_ok hown (hts _ q1305) (hts _ q1306) (hts _ q150) hW 92 0 (obv_0 rfl) rfl df_92 (Nat.le_of_ble_eq_true rfl) rfl sole_92 (Or.inl rfl) (Or.inl rfl) hrm1.1 hrm1.2 dX1_rota_24 (fun H L hx1 hW => ?_)
      rw [← e17] at hx1 hW
      have hcs := hcs.more (σ1 := σ16) (a := 1) (b := 10) (by rw [e17]; rfl) (by rw [e17]; rfl)
      have hrm := hrm1
      have hc18 : 0 < gN_ σ16 1 := Nat.lt_of_lt_of_le hc14 (hx1.2.1 1)
      have hc19 : gN_ σ 92 < gN_ σ16 92 := by rw [e17]; exact nO_lt rfl
      rw [show ow_ 92 = 92 from rfl]
      have hl : lv_has ls 8 [(0, .ref (L 1 0)), (1, .int x1), (2, .int x2), (3, .int x3), (4, .int x4)] := by rw [hx1.at hp15 (by decide)]; exact hl
      have hx0 := hx0.trans hx1
      refine lv_dup hx hb dX1_rota_27 rfl ?_
      refine lv_aload_n hx hb dX1_rota_28 rfl (lv_at hl 0 rfl) ?_
      refine lv_iload_n hx hb dX1_rota_29 rfl (lv_at hl 1 rfl) ?_
      refine lv_iload_n hx hb dX1_rota_30 rfl (lv_at hl 2 rfl) ?_
      obtain ⟨σ22, hc20, hs⟩ := ww_bnd hs
      have hl : lv_has ls 8 [(3, .int x3), (4, .int x4)] := lv_sub hl [3, 4] rfl
      have hp23 : pr σ16 92 (gN_ σ 92) := (pr_dy hc19 rfl rfl)
      obtain ⟨hc24, hs⟩ := ww_chk hs
      obtain ⟨hs, hck⟩ := ww_ck2 hs
      have hrm1 := hcs.roomC hc24 hck
      refine wa_cv (va_runI (As := [.ref (L 1 0), .int x1, .int x2]) (rest := [.ref (L 92 (gN_ σ 92))]) ⟨hx, hb, hml, hown, hts⟩ (c_X19_init (rw_ g) rfl l L σ16 (gN_ σ 92) x1 x2 _ hc20) (cwI 3 hts (lw_meth q1309) rfl rfl rfl (hts _ q150) (hts _ q1307) (hts _ q1308) rfl hd_X19_init.2 ⟨(Nat.le_of_ble_eq_true rfl), (Nat.le_of_ble_eq_true rfl)⟩) (ww_preS hW) rfl rfl hl.1 rfl (lv_room (Nat.le_of_ble_eq_true rfl)) dX1_rota_31 hrm1) hW (fun H locs L hx1 hW => ?_)
      have hc25 : 0 < gN_ σ22 1 := Nat.lt_of_lt_of_le hc18 (hx1.2.1 1)
      have hc26 : (gN_ σ 92) < gN_ σ22 92 := Nat.lt_of_lt_of_le hc19 (hx1.2.1 92)
      have hcs := hcs.call hc24
      have hrm := hrm1
      refine ww_stk (st1 := [.ref (L 92 (gN_ σ 92))]) (by rw [hx1.at hp23 (by decide)]) ?_
      have hx0 := hx0.trans hx1
      obtain ⟨hrdy, hs⟩ := ww_pif hs
      have hW := hW.ready hrdy
      refine lv_astore (lv' := [(5, .ref (L 92 (gN_ σ 92))), (3, .int x3), (4, .int x4)]) hx hb dX1_rota_34 hl (by decide) rfl (fun ls hl => ?_)
      refine lv_iload hx hb dX1_rota_36 (lv_at hl 2 rfl) ?_
      refine lv_istore (lv' := [(6, .int x4), (5, .ref (L 92 (gN_ σ 92))), (3, .int x3), (4, .int x4)]) hx hb dX1_rota_38 hl (by decide) rfl (fun ls hl => ?_)
      refine lv_iconst (v := 0) hx hb dX1_rota_40 (by decide) ?_
      refine lv_istore (lv' := [(7, .int (0 : Int32)), (6, .int x4), (5, .ref (L 92 (gN_ σ 92))), (3, .int x3), (4, .int x4)]) hx hb dX1_rota_41 hl (by decide) rfl (fun ls hl => ?_)
      exact hL43 fu_ L σ22 x3 x4 (gN_ σ 92) x4 (0 : Int32) _ _ _ _ ls hx0 hcs hrm hW (lv_sub hl [3, 4, 2, 1, 0] rfl) hs
  refine lv_iload_n hx hb dX1_rota_0 rfl (lv_at hl 1 rfl) ?_
  refine lv_iload_n hx hb dX1_rota_1 rfl (lv_at hl 2 rfl) ?_
  obtain ⟨o29, hc27, hs⟩ := ww_bnd hs
  rcases o29 with k30 | v31
  · have hs := ww_sL hs
    have hs := ww_S hs
    have e1 : o_ = .inl k30 := congrArg Prod.fst hs
    have e2 : σ_ = bX_ σ := congrArg Prod.snd hs
    subst e1
    have hrmx := hcs.room (σ1 := bX_ σ) (σ_ := σ_) (a := 1) (b := 6) rfl rfl (by rw [e2]; exact ⟨Nat.le_refl _, Nat.le_refl _⟩)
    exact wz_prop (vx_runS (As := [.int a1, .int a2]) (rest := []) ⟨hx, hb, hml, hown, hts⟩ (c_X1_nights g hgm l L σ a1 a2 hst _ hc27) (va_cwS 2 hts (lw_S q1302 q1303 q111 q1304) rfl rfl rfl hd_X1_nights.2 ⟨(Nat.le_of_ble_eq_true rfl), (Nat.le_of_ble_eq_true rfl)⟩) (ww_preS hW) rfl rfl hl.1 rfl (lv_room (Nat.le_of_ble_eq_true rfl)) dX1_rota_2 hrmx) no_v hx0 hW hlocks hout rfl e2 hrmx
  · have hs := ww_sR hs
    refine ww_xv0 (vx_runS (As := [.int a1, .int a2]) (rest := []) ⟨hx, hb, hml, hown, hts⟩ (c_X1_nights g hgm l L σ a1 a2 hst _ hc27) (va_cwS 2 hts (lw_S q1302 q1303 q111 q1304) rfl rfl rfl hd_X1_nights.2 ⟨(Nat.le_of_ble_eq_true rfl), (Nat.le_of_ble_eq_true rfl)⟩) (ww_preS hW) rfl rfl hl.1 rfl (lv_room (Nat.le_of_ble_eq_true rfl)) dX1_rota_2 hrm) hW (fun H locs hW => ?_)
    refine lv_iload_n hx hb dX1_rota_5 rfl (lv_at hl 3 rfl) ?_
    refine lv_iconst (v := 0) hx hb dX1_rota_6 (by decide) ?_
    refine lv_iload_n hx hb dX1_rota_7 rfl (lv_at hl 1 rfl) ?_
    refine lv_iconst (v := 1) hx hb dX1_rota_8 (by decide) ?_
    refine lv_isub hx hb dX1_rota_9 ?_
    obtain ⟨v34, hc32, hs⟩ := ww_bnd hs
    refine ww_ci (va_runS (As := [.int a3, .int (0 : Int32), .int (a1 - (1 : Int32))]) (rest := []) ⟨hx, hb, hml, hown, hts⟩ (c_X1_in g hgm l L σ a3 (0 : Int32) (a1 - (1 : Int32)) _ hc32) (va_cwS 3 hts (lw_S q824 q825 q111 q826) rfl rfl rfl hd_X1_in.2 ⟨(Nat.le_of_ble_eq_true rfl), (Nat.le_of_ble_eq_true rfl)⟩) (ww_preS hW) rfl rfl hl.1 rfl (lv_room (Nat.le_of_ble_eq_true rfl)) dX1_rota_10 hrm) hW (fun H locs hW => ?_)
    refine lv_if_ne (tgt := 20) hx hb dX1_rota_13 (by decide) (fun hc35 => ?_) (fun hc35 => ?_)
    · have hs := ww_F hs hc35
      refine lv_iconst (v := 0) hx hb dX1_rota_20 (by decide) ?_
      exact hL21 L σ a1 a2 a3 a4 (0 : Int32) _ _ _ _ ls hx0 hcs hrm hW (lv_sub hl [0, 1, 2, 3, 4] rfl) hs
    · have hs := ww_T hs hc35
      refine lv_iconst (v := 1) hx hb dX1_rota_16 (by decide) ?_
      refine lv_goto (tgt := 21) hx hb dX1_rota_17 (by decide) ?_
      exact hL21 L σ a1 a2 a3 a4 (1 : Int32) _ _ _ _ ls hx0 hcs hrm hW (lv_sub hl [0, 1, 2, 3, 4] rfl) hs
set_option maxHeartbeats 4000000 in
theorem c_X1_loads (g : wg_T) (hgm : gm g = true) (l : Launch) (L : ly_T) (σ : st_T) (a1 : Int32) (a2 : Int32) (hst : l.stackTraces = false) (o_ : Nat ⊕ Int32) (σ_ : st_T) (hs : m_X1_loads σ a1 a2 = some (o_, σ_)) : YI g l yX1_loads (ws_ yX1_loads cX1_loads 4 (some .int)) 30 818 [.ref (L 1 0), .int a1, .int a2] L σ o_ σ_ := by
  refine xbody.met (by decide) (Nat.le_of_ble_eq_true rfl) ?_
  intro p e s m args below meth c ls hx hb hr hml hlocks hts hown hnm hout hW hl
  have hown : s.vm.findClass RX1 = some m.cls := hown
  obtain ⟨L0, hL0⟩ : ∃ L0, L0 = L := ⟨_, rfl⟩
  obtain ⟨σ0, hσ0⟩ : ∃ σ0, σ0 = σ := ⟨_, rfl⟩
  rw [← hσ0, ← hL0]
  have hx0 : lext L0 σ0 L σ := by rw [hL0, hσ0]; exact lext.refl
  have hcs : bk σ0 σ 0 0 := bk.start hσ0
  have hrm : 0 ≤ cu_ σ_ - cu_ σ0 ∧ 0 ≤ su_ σ_ - su_ σ0 := ⟨Nat.zero_le _, Nat.zero_le _⟩
  have hl : lv_has ls 4 [(0, .ref (L 1 0)), (1, .int a1), (2, .int a2)] := hl
  unfold m_X1_loads at hs
  have hL31 : ∀ (L : ly_T) (σ : st_T) (t0 : Int32) (H : Heap) (locs : List Loc) (cells slots : Nat) (ls : Array Slot), lext L0 σ0 L σ → bk σ0 σ cells slots → (cells ≤ cu_ σ_ - cu_ σ0 ∧ slots ≤ su_ σ_ - su_ σ0) → wv g L σ s H locs → lv_has ls 4 [] → m_X1_loads_L31 σ t0 = some (o_, σ_) → W p l e (wrA 30 818 σ0 σ_) s m args below meth c H locs cells slots (vx_MQ below (yXi g L0 σ0 o_ σ_) (yX g L0 σ0 o_ σ_) args s (cu_ σ_ - cu_ σ0) (su_ σ_ - su_ σ0) (fun q => gz g ≤ q)) (F0 m 31 ls [.int t0]) := by
    intro L σ t0 H locs cells slots ls hx0 hcs hrm hW hl hs
    unfold m_X1_loads_L31 at hs
    have hs := ww_S hs
    exact wz_i hx hb hr hlocks hx0 hcs hW (congrArg Prod.fst hs) (congrArg Prod.snd hs) dX1_loads_31
  refine lv_iload_n hx hb dX1_loads_0 rfl (lv_at hl 1 rfl) ?_
  refine lv_iload_n hx hb dX1_loads_1 rfl (lv_at hl 2 rfl) ?_
  obtain ⟨o3, hc1, hs⟩ := ww_bnd hs
  rcases o3 with k4 | v5
  · have hs := ww_sL hs
    have hs := ww_S hs
    have e1 : o_ = .inl k4 := congrArg Prod.fst hs
    have e2 : σ_ = bX_ σ := congrArg Prod.snd hs
    subst e1
    have hrmx := hcs.room (σ1 := bX_ σ) (σ_ := σ_) (a := 1) (b := 6) rfl rfl (by rw [e2]; exact ⟨Nat.le_refl _, Nat.le_refl _⟩)
    exact wz_prop (vx_runS (As := [.int a1, .int a2]) (rest := []) ⟨hx, hb, hml, hown, hts⟩ (c_X1_nights g hgm l L σ a1 a2 hst _ hc1) (va_cwS 2 hts (lw_S q1302 q1303 q111 q1304) rfl rfl rfl hd_X1_nights.2 ⟨(Nat.le_of_ble_eq_true rfl), (Nat.le_of_ble_eq_true rfl)⟩) (ww_preS hW) rfl rfl hl.1 rfl (lv_room (Nat.le_of_ble_eq_true rfl)) dX1_loads_2 hrmx) no_v hx0 hW hlocks hout rfl e2 hrmx
  · have hs := ww_sR hs
    refine ww_xv0 (vx_runS (As := [.int a1, .int a2]) (rest := []) ⟨hx, hb, hml, hown, hts⟩ (c_X1_nights g hgm l L σ a1 a2 hst _ hc1) (va_cwS 2 hts (lw_S q1302 q1303 q111 q1304) rfl rfl rfl hd_X1_nights.2 ⟨(Nat.le_of_ble_eq_true rfl), (Nat.le_of_ble_eq_true rfl)⟩) (ww_preS hW) rfl rfl hl.1 rfl (lv_room (Nat.le_of_ble_eq_true rfl)) dX1_loads_2 hrm) hW (fun H locs hW => ?_)
    have hW := hW.raw
    obtain ⟨hc6, hs⟩ := ww_chk hs
    have hp7 : pr σ 1 0 := (pr_dy hc6 rfl rfl)
    obtain ⟨σ8, e9, hs⟩ := ww_let hs
    obtain ⟨hs, hck⟩ := ww_ck2 hs
    have hrm1 := hcs.room (σ1 := σ8) (a := 1) (b := 10) (by rw [e9]; rfl) (by rw [e9]; rfl) hck
    refine ww_newo (ci := 11) hx hb hts in_X19 tyX19 tyX19_ok hown (hts _ q1305) (hts _ q1306) (hts _ q150) hW 92 0 (obv_0 rfl) rfl df_92 (Nat.le_of_ble_eq_true rfl) rfl sole_92 (Or.inl rfl) (Or.inl rfl) hrm1.1 hrm1.2 dX1_loads_5 (fun H L hx1 hW => ?_)
    rw [← e9] at hx1 hW
    have hcs := hcs.more (σ1 := σ8) (a := 1) (b := 10) (by rw [e9]; rfl) (by rw [e9]; rfl)
    have hrm := hrm1
    have hc10 : 0 < gN_ σ8 1 := Nat.lt_of_lt_of_le hc6 (hx1.2.1 1)
    have hc11 : gN_ σ 92 < gN_ σ8 92 := by rw [e9]; exact nO_lt rfl
    rw [show ow_ 92 = 92 from rfl]
    have hl : lv_has ls 4 [(0, .ref (L 1 0)), (1, .int a1), (2, .int a2)] := by rw [hx1.at hp7 (by decide)]; exact hl
    have hx0 := hx0.trans hx1
    refine lv_dup hx hb dX1_loads_8 rfl ?_
    refine lv_aload_n hx hb dX1_loads_9 rfl (lv_at hl 0 rfl) ?_
    refine lv_iload_n hx hb dX1_loads_10 rfl (lv_at hl 1 rfl) ?_
    refine lv_iload_n hx hb dX1_loads_11 rfl (lv_at hl 2 rfl) ?_
    obtain ⟨σ14, hc12, hs⟩ := ww_bnd hs
    have hl : lv_has ls 4 [] := lv_sub hl [] rfl
    have hp15 : pr σ8 92 (gN_ σ 92) := (pr_dy hc11 rfl rfl)
    obtain ⟨hc16, hs⟩ := ww_chk hs
    obtain ⟨hs, hck⟩ := ww_ck2 hs
    have hrm1 := hcs.roomC hc16 hck
    refine wa_cv (va_runI (As := [.ref (L 1 0), .int a1, .int a2]) (rest := [.ref (L 92 (gN_ σ 92))]) ⟨hx, hb, hml, hown, hts⟩ (c_X19_init (rw_ g) rfl l L σ8 (gN_ σ 92) a1 a2 _ hc12) (cwI 3 hts (lw_meth q1309) rfl rfl rfl (hts _ q150) (hts _ q1307) (hts _ q1308) rfl hd_X19_init.2 ⟨(Nat.le_of_ble_eq_true rfl), (Nat.le_of_ble_eq_true rfl)⟩) (ww_preS hW) rfl rfl hl.1 rfl (lv_room (Nat.le_of_ble_eq_true rfl)) dX1_loads_12 hrm1) hW (fun H locs L hx1 hW => ?_)
    have hc17 : 0 < gN_ σ14 1 := Nat.lt_of_lt_of_le hc10 (hx1.2.1 1)
    have hc18 : (gN_ σ 92) < gN_ σ14 92 := Nat.lt_of_lt_of_le hc11 (hx1.2.1 92)
    have hcs := hcs.call hc16
    have hrm := hrm1
    refine ww_stk (st1 := [.ref (L 92 (gN_ σ 92))]) (by rw [hx1.at hp15 (by decide)]) ?_
    have hx0 := hx0.trans hx1
    obtain ⟨hrdy, hs⟩ := ww_pif hs
    have hW := hW.ready hrdy
    refine lv_astore_n (lv' := [(3, .ref (L 92 (gN_ σ 92)))]) hx hb dX1_loads_15 rfl hl (by decide) rfl (fun ls hl => ?_)
    refine lv_aload_n hx hb dX1_loads_16 rfl (lv_at hl 0 rfl) ?_
    refine gf_X1_383 hx hb hts hown hW (pr_dy hc18 rfl rfl) dX1_loads_17 ?_
    refine lv_if_eq (tgt := 30) hx hb dX1_loads_20 (by decide) (fun hc19 => ?_) (fun hc19 => ?_)
    · have hs := ww_T hs hc19
      refine lv_iconst (v := (-1)) hx hb dX1_loads_30 (by decide) ?_
      exact hL31 L σ14 (-1 : Int32) _ _ _ _ ls hx0 hcs hrm hW (lv_sub hl [] rfl) hs
    · have hs := ww_F hs hc19
      refine lv_aload_n hx hb dX1_loads_23 rfl (lv_at hl 0 rfl) ?_
      refine gf_X1_390 hx hb hts hown hW (pr_dy hc18 rfl rfl) dX1_loads_24 ?_
      refine lv_goto (tgt := 31) hx hb dX1_loads_27 (by decide) ?_
      exact hL31 L σ14 (gF_ σ14 92 6 (gN_ σ 92)) _ _ _ _ ls hx0 hcs hrm hW (lv_sub hl [] rfl) hs
