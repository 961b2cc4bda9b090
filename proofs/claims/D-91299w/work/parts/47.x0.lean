set_option maxRecDepth 100000
theorem hd_X0_land : yX0_land.cls = RX0 ∧ yX0_land.cls ≠ "java/lang/invoke/MethodHandle" ∧ yX0_land.cls ≠ "java/lang/invoke/VarHandle" ∧ (parseMethodDescriptor yX0_land.desc).map (fun d => d.parameters.length) = some 4 := by decide +kernel
theorem hd_X0_field : yX0_field.cls = RX0 ∧ yX0_field.cls ≠ "java/lang/invoke/MethodHandle" ∧ yX0_field.cls ≠ "java/lang/invoke/VarHandle" ∧ (parseMethodDescriptor yX0_field.desc).map (fun d => d.parameters.length) = some 6 := by decide +kernel
theorem hd_X0_stalks : yX0_stalks.cls = RX0 ∧ yX0_stalks.cls ≠ "java/lang/invoke/MethodHandle" ∧ yX0_stalks.cls ≠ "java/lang/invoke/VarHandle" ∧ (parseMethodDescriptor yX0_stalks.desc).map (fun d => d.parameters.length) = some 3 := by decide +kernel
theorem hd_X0_village : yX0_village.cls = RX0 ∧ yX0_village.cls ≠ "java/lang/invoke/MethodHandle" ∧ yX0_village.cls ≠ "java/lang/invoke/VarHandle" ∧ (parseMethodDescriptor yX0_village.desc).map (fun d => d.parameters.length) = some 4 := by decide +kernel
theorem hd_X0_fence : yX0_fence.cls = RX0 ∧ yX0_fence.cls ≠ "java/lang/invoke/MethodHandle" ∧ yX0_fence.cls ≠ "java/lang/invoke/VarHandle" ∧ (parseMethodDescriptor yX0_fence.desc).map (fun d => d.parameters.length) = some 6 := by decide +kernel
theorem hd_X0_fenced : yX0_fenced.cls = RX0 ∧ yX0_fenced.cls ≠ "java/lang/invoke/MethodHandle" ∧ yX0_fenced.cls ≠ "java/lang/invoke/VarHandle" ∧ (parseMethodDescriptor yX0_fenced.desc).map (fun d => d.parameters.length) = some 4 := by decide +kernel
theorem hd_X0_fear : yX0_fear.cls = RX0 ∧ yX0_fear.cls ≠ "java/lang/invoke/MethodHandle" ∧ yX0_fear.cls ≠ "java/lang/invoke/VarHandle" ∧ (parseMethodDescriptor yX0_fear.desc).map (fun d => d.parameters.length) = some 3 := by decide +kernel
theorem hd_X0_rule : yX0_rule.cls = RX0 ∧ yX0_rule.cls ≠ "java/lang/invoke/MethodHandle" ∧ yX0_rule.cls ≠ "java/lang/invoke/VarHandle" ∧ (parseMethodDescriptor yX0_rule.desc).map (fun d => d.parameters.length) = some 3 := by decide +kernel
theorem hd_X0_like : yX0_like.cls = RX0 ∧ yX0_like.cls ≠ "java/lang/invoke/MethodHandle" ∧ yX0_like.cls ≠ "java/lang/invoke/VarHandle" ∧ (parseMethodDescriptor yX0_like.desc).map (fun d => d.parameters.length) = some 4 := by decide +kernel
theorem hd_X0_herd : yX0_herd.cls = RX0 ∧ yX0_herd.cls ≠ "java/lang/invoke/MethodHandle" ∧ yX0_herd.cls ≠ "java/lang/invoke/VarHandle" ∧ (parseMethodDescriptor yX0_herd.desc).map (fun d => d.parameters.length) = some 5 := by decide +kernel
theorem hd_X0_cost : yX0_cost.cls = RX0 ∧ yX0_cost.cls ≠ "java/lang/invoke/MethodHandle" ∧ yX0_cost.cls ≠ "java/lang/invoke/VarHandle" ∧ (parseMethodDescriptor yX0_cost.desc).map (fun d => d.parameters.length) = some 4 := by decide +kernel
theorem hd_X0_way : yX0_way.cls = RX0 ∧ yX0_way.cls ≠ "java/lang/invoke/MethodHandle" ∧ yX0_way.cls ≠ "java/lang/invoke/VarHandle" ∧ (parseMethodDescriptor yX0_way.desc).map (fun d => d.parameters.length) = some 5 := by decide +kernel
theorem hd_X0_foretold : yX0_foretold.cls = RX0 ∧ yX0_foretold.cls ≠ "java/lang/invoke/MethodHandle" ∧ yX0_foretold.cls ≠ "java/lang/invoke/VarHandle" ∧ (parseMethodDescriptor yX0_foretold.desc).map (fun d => d.parameters.length) = some 4 := by decide +kernel
theorem hd_X0_pushed : yX0_pushed.cls = RX0 ∧ yX0_pushed.cls ≠ "java/lang/invoke/MethodHandle" ∧ yX0_pushed.cls ≠ "java/lang/invoke/VarHandle" ∧ (parseMethodDescriptor yX0_pushed.desc).map (fun d => d.parameters.length) = some 5 := by decide +kernel
theorem hd_X0_build : yX0_build.cls = RX0 ∧ yX0_build.cls ≠ "java/lang/invoke/MethodHandle" ∧ yX0_build.cls ≠ "java/lang/invoke/VarHandle" ∧ (parseMethodDescriptor yX0_build.desc).map (fun d => d.parameters.length) = some 4 := by decide +kernel
theorem hd_X0_debt : yX0_debt.cls = RX0 ∧ yX0_debt.cls ≠ "java/lang/invoke/MethodHandle" ∧ yX0_debt.cls ≠ "java/lang/invoke/VarHandle" ∧ (parseMethodDescriptor yX0_debt.desc).map (fun d => d.parameters.length) = some 3 := by decide +kernel
theorem hd_X0_watch : yX0_watch.cls = RX0 ∧ yX0_watch.cls ≠ "java/lang/invoke/MethodHandle" ∧ yX0_watch.cls ≠ "java/lang/invoke/VarHandle" ∧ (parseMethodDescriptor yX0_watch.desc).map (fun d => d.parameters.length) = some 4 := by decide +kernel
theorem hd_X0_watched : yX0_watched.cls = RX0 ∧ yX0_watched.cls ≠ "java/lang/invoke/MethodHandle" ∧ yX0_watched.cls ≠ "java/lang/invoke/VarHandle" ∧ (parseMethodDescriptor yX0_watched.desc).map (fun d => d.parameters.length) = some 3 := by decide +kernel
theorem hd_X0_post : yX0_post.cls = RX0 ∧ yX0_post.cls ≠ "java/lang/invoke/MethodHandle" ∧ yX0_post.cls ≠ "java/lang/invoke/VarHandle" ∧ (parseMethodDescriptor yX0_post.desc).map (fun d => d.parameters.length) = some 4 := by decide +kernel
theorem hd_X0_join : yX0_join.cls = RX0 ∧ yX0_join.cls ≠ "java/lang/invoke/MethodHandle" ∧ yX0_join.cls ≠ "java/lang/invoke/VarHandle" ∧ (parseMethodDescriptor yX0_join.desc).map (fun d => d.parameters.length) = some 4 := by decide +kernel
theorem hd_X0_away : yX0_away.cls = RX0 ∧ yX0_away.cls ≠ "java/lang/invoke/MethodHandle" ∧ yX0_away.cls ≠ "java/lang/invoke/VarHandle" ∧ (parseMethodDescriptor yX0_away.desc).map (fun d => d.parameters.length) = some 5 := by decide +kernel
theorem hd_X0_rota : yX0_rota.cls = RX0 ∧ yX0_rota.cls ≠ "java/lang/invoke/MethodHandle" ∧ yX0_rota.cls ≠ "java/lang/invoke/VarHandle" ∧ (parseMethodDescriptor yX0_rota.desc).map (fun d => d.parameters.length) = some 6 := by decide +kernel
theorem hd_X0_loads : yX0_loads.cls = RX0 ∧ yX0_loads.cls ≠ "java/lang/invoke/MethodHandle" ∧ yX0_loads.cls ≠ "java/lang/invoke/VarHandle" ∧ (parseMethodDescriptor yX0_loads.desc).map (fun d => d.parameters.length) = some 4 := by decide +kernel
theorem hd_X0_find : yX0_find.cls = RX0 ∧ yX0_find.cls ≠ "java/lang/invoke/MethodHandle" ∧ yX0_find.cls ≠ "java/lang/invoke/VarHandle" ∧ (parseMethodDescriptor yX0_find.desc).map (fun d => d.parameters.length) = some 4 := by decide +kernel
theorem hd_X0_harm : yX0_harm.cls = RX0 ∧ yX0_harm.cls ≠ "java/lang/invoke/MethodHandle" ∧ yX0_harm.cls ≠ "java/lang/invoke/VarHandle" ∧ (parseMethodDescriptor yX0_harm.desc).map (fun d => d.parameters.length) = some 6 := by decide +kernel
theorem hd_X0_fund : yX0_fund.cls = RX0 ∧ yX0_fund.cls ≠ "java/lang/invoke/MethodHandle" ∧ yX0_fund.cls ≠ "java/lang/invoke/VarHandle" ∧ (parseMethodDescriptor yX0_fund.desc).map (fun d => d.parameters.length) = some 3 := by decide +kernel
theorem hd_X0_judge : yX0_judge.cls = RX0 ∧ yX0_judge.cls ≠ "java/lang/invoke/MethodHandle" ∧ yX0_judge.cls ≠ "java/lang/invoke/VarHandle" ∧ (parseMethodDescriptor yX0_judge.desc).map (fun d => d.parameters.length) = some 6 := by decide +kernel
theorem hd_X0_claim : yX0_claim.cls = RX0 ∧ yX0_claim.cls ≠ "java/lang/invoke/MethodHandle" ∧ yX0_claim.cls ≠ "java/lang/invoke/VarHandle" ∧ (parseMethodDescriptor yX0_claim.desc).map (fun d => d.parameters.length) = some 4 := by decide +kernel
theorem hd_X0_fix : yX0_fix.cls = RX0 ∧ yX0_fix.cls ≠ "java/lang/invoke/MethodHandle" ∧ yX0_fix.cls ≠ "java/lang/invoke/VarHandle" ∧ (parseMethodDescriptor yX0_fix.desc).map (fun d => d.parameters.length) = some 5 := by decide +kernel
theorem hd_X0_mayBe : yX0_mayBe.cls = RX0 ∧ yX0_mayBe.cls ≠ "java/lang/invoke/MethodHandle" ∧ yX0_mayBe.cls ≠ "java/lang/invoke/VarHandle" ∧ (parseMethodDescriptor yX0_mayBe.desc).map (fun d => d.parameters.length) = some 5 := by decide +kernel
theorem hd_X0_spots : yX0_spots.cls = RX0 ∧ yX0_spots.cls ≠ "java/lang/invoke/MethodHandle" ∧ yX0_spots.cls ≠ "java/lang/invoke/VarHandle" ∧ (parseMethodDescriptor yX0_spots.desc).map (fun d => d.parameters.length) = some 4 := by decide +kernel
theorem hd_X0_wire : yX0_wire.cls = RX0 ∧ yX0_wire.cls ≠ "java/lang/invoke/MethodHandle" ∧ yX0_wire.cls ≠ "java/lang/invoke/VarHandle" ∧ (parseMethodDescriptor yX0_wire.desc).map (fun d => d.parameters.length) = some 5 := by decide +kernel
theorem hd_X0_wind : yX0_wind.cls = RX0 ∧ yX0_wind.cls ≠ "java/lang/invoke/MethodHandle" ∧ yX0_wind.cls ≠ "java/lang/invoke/VarHandle" ∧ (parseMethodDescriptor yX0_wind.desc).map (fun d => d.parameters.length) = some 4 := by decide +kernel
theorem hd_X0_trip : yX0_trip.cls = RX0 ∧ yX0_trip.cls ≠ "java/lang/invoke/MethodHandle" ∧ yX0_trip.cls ≠ "java/lang/invoke/VarHandle" ∧ (parseMethodDescriptor yX0_trip.desc).map (fun d => d.parameters.length) = some 4 := by decide +kernel
theorem hd_X0_cause : yX0_cause.cls = RX0 ∧ yX0_cause.cls ≠ "java/lang/invoke/MethodHandle" ∧ yX0_cause.cls ≠ "java/lang/invoke/VarHandle" ∧ (parseMethodDescriptor yX0_cause.desc).map (fun d => d.parameters.length) = some 3 := by decide +kernel
theorem hd_X0_causes : yX0_causes.cls = RX0 ∧ yX0_causes.cls ≠ "java/lang/invoke/MethodHandle" ∧ yX0_causes.cls ≠ "java/lang/invoke/VarHandle" ∧ (parseMethodDescriptor yX0_causes.desc).map (fun d => d.parameters.length) = some 4 := by decide +kernel
theorem hd_X0_called : yX0_called.cls = RX0 ∧ yX0_called.cls ≠ "java/lang/invoke/MethodHandle" ∧ yX0_called.cls ≠ "java/lang/invoke/VarHandle" ∧ (parseMethodDescriptor yX0_called.desc).map (fun d => d.parameters.length) = some 4 := by decide +kernel
theorem hd_X0_dusk : yX0_dusk.cls = RX0 ∧ yX0_dusk.cls ≠ "java/lang/invoke/MethodHandle" ∧ yX0_dusk.cls ≠ "java/lang/invoke/VarHandle" ∧ (parseMethodDescriptor yX0_dusk.desc).map (fun d => d.parameters.length) = some 5 := by decide +kernel
theorem hd_X0_lease : yX0_lease.cls = RX0 ∧ yX0_lease.cls ≠ "java/lang/invoke/MethodHandle" ∧ yX0_lease.cls ≠ "java/lang/invoke/VarHandle" ∧ (parseMethodDescriptor yX0_lease.desc).map (fun d => d.parameters.length) = some 4 := by decide +kernel
theorem hd_X0_rent : yX0_rent.cls = RX0 ∧ yX0_rent.cls ≠ "java/lang/invoke/MethodHandle" ∧ yX0_rent.cls ≠ "java/lang/invoke/VarHandle" ∧ (parseMethodDescriptor yX0_rent.desc).map (fun d => d.parameters.length) = some 4 := by decide +kernel
theorem hd_X0_rents : yX0_rents.cls = RX0 ∧ yX0_rents.cls ≠ "java/lang/invoke/MethodHandle" ∧ yX0_rents.cls ≠ "java/lang/invoke/VarHandle" ∧ (parseMethodDescriptor yX0_rents.desc).map (fun d => d.parameters.length) = some 4 := by decide +kernel
theorem hd_X0_gap : yX0_gap.cls = RX0 ∧ yX0_gap.cls ≠ "java/lang/invoke/MethodHandle" ∧ yX0_gap.cls ≠ "java/lang/invoke/VarHandle" ∧ (parseMethodDescriptor yX0_gap.desc).map (fun d => d.parameters.length) = some 5 := by decide +kernel
noncomputable def m_X0_land (σ : st_T) (a2 : Int32) (a3 : Int32) : Option (Int32 × st_T) := bn2_ (m_X1_land σ a2 a3) fun o3 σ4 => pif_ (kp_ σ σ4) (sm_ o3 (fun k5 => if k5 = 0 then lt_ (bX_ σ4) fun σ9 => ck2_ σ9 (some ((1 : Int32), σ9)) else if k5 = 1 then lt_ (bX_ σ4) fun σ13 => ck2_ σ13 (some ((2 : Int32), σ13)) else if k5 = 2 then lt_ (bX_ σ4) fun σ17 => ck2_ σ17 (some ((3 : Int32), σ17)) else none) (fun v6 => if gN_ σ4 100 = 1 then lt_ (sO_ σ4 ((v6).toInt64)) fun σ20 => some ((0 : Int32), σ20) else none))
noncomputable def m_X0_field (σ : st_T) (a2 : Int32) (a3 : Int32) (a4 : Int32) (a5 : Int32) : Option (Int32 × st_T) := bn2_ (m_X1_field σ a2 a3 a4 a5) fun o3 σ4 => pif_ (kp_ σ σ4) (sm_ o3 (fun k5 => if k5 = 0 then lt_ (bX_ σ4) fun σ9 => ck2_ σ9 (some ((1 : Int32), σ9)) else if k5 = 1 then lt_ (bX_ σ4) fun σ13 => ck2_ σ13 (some ((2 : Int32), σ13)) else none) (fun v6 => if gN_ σ4 100 = 1 then lt_ (sO_ σ4 ((v6).toInt64)) fun σ16 => some ((0 : Int32), σ16) else none))
noncomputable def m_X0_stalks (σ : st_T) (a2 : Int32) : Option (Int32 × st_T) := (m_X1_stalks σ a2).bind fun o3 => sm_ o3 (fun k4 => if k4 = 0 then lt_ (bX_ σ) fun σ8 => ck2_ σ8 (some ((1 : Int32), σ8)) else none) (fun v5 => if gN_ σ 100 = 1 then lt_ (sO_ σ ((v5).toInt64)) fun σ11 => some ((0 : Int32), σ11) else none)
noncomputable def m_X0_village (σ : st_T) (a2 : Int32) (a3 : Int32) : Option (Int32 × st_T) := bn2_ (m_X1_village σ a2 a3) fun o3 σ4 => pif_ (kp_ σ σ4) (sm_ o3 (fun k5 => if k5 = 1 then lt_ (bX_ σ4) fun σ9 => ck2_ σ9 (some ((1 : Int32), σ9)) else none) (fun v6 => if gN_ σ4 100 = 1 then lt_ (sO_ σ4 ((v6).toInt64)) fun σ12 => some ((0 : Int32), σ12) else none))
noncomputable def m_X0_fence (σ : st_T) (a2 : Int32) (a3 : Int32) (a4 : Int32) (a5 : Int32) : Option (Int32 × st_T) := bn2_ (m_X1_fence σ a2 a3 a4 a5) fun o3 σ4 => pif_ (kp_ σ σ4) (sm_ o3 (fun k5 => if k5 = 0 then lt_ (bX_ σ4) fun σ9 => ck2_ σ9 (some ((1 : Int32), σ9)) else if k5 = 1 then lt_ (bX_ σ4) fun σ13 => ck2_ σ13 (some ((2 : Int32), σ13)) else none) (fun v6 => if gN_ σ4 100 = 1 then lt_ (sO_ σ4 ((v6).toInt64)) fun σ16 => some ((0 : Int32), σ16) else none))
noncomputable def m_X0_fenced (σ : st_T) (a2 : Int32) (a3 : Int32) : Option (Int32 × st_T) := (m_X1_fenced σ a2 a3).bind fun o3 => sm_ o3 (fun k4 => if k4 = 0 then lt_ (bX_ σ) fun σ8 => ck2_ σ8 (some ((1 : Int32), σ8)) else if k4 = 1 then lt_ (bX_ σ) fun σ12 => ck2_ σ12 (some ((2 : Int32), σ12)) else none) (fun v5 => if gN_ σ 100 = 1 then lt_ (sO_ σ ((v5).toInt64)) fun σ15 => some ((0 : Int32), σ15) else none)
noncomputable def m_X0_fear (σ : st_T) (a2 : Int32) : Option (Int32 × st_T) := (m_X1_fear σ a2).bind fun o3 => sm_ o3 (fun k4 => if k4 = 0 then lt_ (bX_ σ) fun σ8 => ck2_ σ8 (some ((1 : Int32), σ8)) else none) (fun v5 => if gN_ σ 100 = 1 then lt_ (sO_ σ ((v5).toInt64)) fun σ11 => some ((0 : Int32), σ11) else none)
noncomputable def m_X0_rule (σ : st_T) (a2 : Int32) : Option (Int32 × st_T) := bn2_ (m_X1_rule σ a2) fun o3 σ4 => if 0 < gN_ σ 100 then if cu_ σ ≤ cu_ σ4 ∧ su_ σ ≤ su_ σ4 then ck2_ σ4 (sm_ o3 (fun k5 => if k5 = 1 then some ((1 : Int32), σ4) else none) (fun v6 => if gN_ σ4 100 = 1 then lt_ (sO_ σ4 ((v6).toInt64)) fun σ15 => some ((0 : Int32), σ15) else none)) else none else none
noncomputable def m_X0_like (σ : st_T) (a2 : Int32) (a3 : Int32) : Option (Int32 × st_T) := (m_X1_like σ a2 a3).bind fun o3 => sm_ o3 (fun k4 => if k4 = 1 then lt_ (bX_ σ) fun σ8 => ck2_ σ8 (some ((1 : Int32), σ8)) else none) (fun v5 => if gN_ σ 100 = 1 then lt_ (sO_ σ ((v5).toInt64)) fun σ11 => some ((0 : Int32), σ11) else none)
noncomputable def m_X0_herd (σ : st_T) (a2 : Int32) (a3 : Int32) (a4 : Int32) : Option (Int32 × st_T) := bn2_ (m_X1_herd σ a2 a3 a4) fun o3 σ4 => if 0 < gN_ σ 100 then if cu_ σ ≤ cu_ σ4 ∧ su_ σ ≤ su_ σ4 then ck2_ σ4 (sm_ o3 (fun k5 => if k5 = 0 then some ((1 : Int32), σ4) else if k5 = 1 then some ((2 : Int32), σ4) else none) (fun v6 => if gN_ σ4 100 = 1 then lt_ (sO_ σ4 ((v6).toInt64)) fun σ18 => some ((0 : Int32), σ18) else none)) else none else none
noncomputable def m_X0_cost (σ : st_T) (a2 : Int32) (a3 : Int32) : Option (Int32 × st_T) := bn2_ (m_X1_cost σ a2 a3) fun o3 σ4 => pif_ (kp_ σ σ4) (sm_ o3 (fun k5 => if k5 = 3 then lt_ (bX_ σ4) fun σ9 => ck2_ σ9 (some ((1 : Int32), σ9)) else if k5 = 0 then lt_ (bX_ σ4) fun σ13 => ck2_ σ13 (some ((2 : Int32), σ13)) else none) (fun v6 => if gN_ σ4 100 = 1 then lt_ (sO_ σ4 ((v6).toInt64)) fun σ16 => some ((0 : Int32), σ16) else none))
noncomputable def m_X0_way (σ : st_T) (a2 : Int32) (a3 : Int32) (a4 : Int32) : Option (Int32 × st_T) := bn2_ (m_X1_way σ a2 a3 a4) fun o3 σ4 => pif_ (kp_ σ σ4) (sm_ o3 (fun k5 => if k5 = 3 then lt_ (bX_ σ4) fun σ9 => ck2_ σ9 (some ((1 : Int32), σ9)) else if k5 = 0 then lt_ (bX_ σ4) fun σ13 => ck2_ σ13 (some ((2 : Int32), σ13)) else none) (fun v6 => if gN_ σ4 100 = 1 then lt_ (sO_ σ4 ((v6).toInt64)) fun σ16 => some ((0 : Int32), σ16) else none))
noncomputable def m_X0_foretold (σ : st_T) (a2 : Int32) (a3 : Int32) : Option (Int32 × st_T) := bn2_ (m_X1_foretold σ a2 a3) fun o3 σ4 => pif_ (kp_ σ σ4) (sm_ o3 (fun k5 => if k5 = 1 then lt_ (bX_ σ4) fun σ9 => ck2_ σ9 (some ((1 : Int32), σ9)) else none) (fun v6 => if gN_ σ4 100 = 1 then lt_ (sO_ σ4 ((v6).toInt64)) fun σ12 => some ((0 : Int32), σ12) else none))
noncomputable def m_X0_pushed (σ : st_T) (a2 : Int32) (a3 : Int32) (a4 : Int32) : Option (Int32 × st_T) := bn2_ (m_X1_pushed σ a2 a3 a4) fun o3 σ4 => pif_ (kp_ σ σ4) (sm_ o3 (fun k5 => if k5 = 0 then lt_ (bX_ σ4) fun σ9 => ck2_ σ9 (some ((1 : Int32), σ9)) else if k5 = 1 then lt_ (bX_ σ4) fun σ13 => ck2_ σ13 (some ((2 : Int32), σ13)) else none) (fun v6 => if gN_ σ4 100 = 1 then lt_ (sO_ σ4 ((v6).toInt64)) fun σ16 => some ((0 : Int32), σ16) else none))
noncomputable def m_X0_build (σ : st_T) (a2 : Int32) (a3 : Int32) : Option (Int32 × st_T) := bn2_ (m_X1_build σ a2 a3) fun o3 σ4 => if 0 < gN_ σ 100 then if cu_ σ ≤ cu_ σ4 ∧ su_ σ ≤ su_ σ4 then ck2_ σ4 (sm_ o3 (fun k5 => if k5 = 1 then some ((1 : Int32), σ4) else none) (fun v6 => if gN_ σ4 100 = 1 then lt_ (sO_ σ4 ((v6).toInt64)) fun σ15 => some ((0 : Int32), σ15) else none)) else none else none
noncomputable def m_X0_debt (σ : st_T) (a2 : Int32) : Option (Int32 × st_T) := (m_X1_debt σ a2).bind fun o3 => sm_ o3 (fun k4 => if k4 = 1 then lt_ (bX_ σ) fun σ8 => ck2_ σ8 (some ((1 : Int32), σ8)) else none) (fun v5 => if gN_ σ 100 = 1 then lt_ (sO_ σ ((v5).toInt64)) fun σ11 => some ((0 : Int32), σ11) else none)
noncomputable def m_X0_watch (σ : st_T) (a2 : Int32) (a3 : Int32) : Option (Int32 × st_T) := bn2_ (m_X1_watch_2 σ a2 a3) fun o3 σ4 => pif_ (kp_ σ σ4) (sm_ o3 (fun k5 => if k5 = 0 then lt_ (bX_ σ4) fun σ9 => ck2_ σ9 (some ((1 : Int32), σ9)) else if k5 = 1 then lt_ (bX_ σ4) fun σ13 => ck2_ σ13 (some ((2 : Int32), σ13)) else none) (fun v6 => if gN_ σ4 100 = 1 then lt_ (sO_ σ4 ((v6).toInt64)) fun σ16 => some ((0 : Int32), σ16) else none))
noncomputable def m_X0_watched (σ : st_T) (a2 : Int32) : Option (Int32 × st_T) := (m_X1_watched σ a2).bind fun o3 => sm_ o3 (fun k4 => if k4 = 1 then lt_ (bX_ σ) fun σ8 => ck2_ σ8 (some ((1 : Int32), σ8)) else none) (fun v5 => if gN_ σ 100 = 1 then lt_ (sO_ σ ((v5).toInt64)) fun σ11 => some ((0 : Int32), σ11) else none)
noncomputable def m_X0_post (σ : st_T) (a2 : Int32) (a3 : Int32) : Option (Int32 × st_T) := bn2_ (m_X1_post σ a2 a3) fun o3 σ4 => pif_ (kp_ σ σ4) (sm_ o3 (fun k5 => if k5 = 1 then lt_ (bX_ σ4) fun σ9 => ck2_ σ9 (some ((1 : Int32), σ9)) else none) (fun v6 => if gN_ σ4 100 = 1 then lt_ (sO_ σ4 ((v6).toInt64)) fun σ12 => some ((0 : Int32), σ12) else none))
noncomputable def m_X0_join (σ : st_T) (a2 : Int32) (a3 : Int32) : Option (Int32 × st_T) := bn2_ (m_X1_join σ a2 a3) fun o3 σ4 => pif_ (kp_ σ σ4) (sm_ o3 (fun k5 => if k5 = 1 then lt_ (bX_ σ4) fun σ9 => ck2_ σ9 (some ((1 : Int32), σ9)) else none) (fun v6 => if gN_ σ4 100 = 1 then lt_ (sO_ σ4 ((v6).toInt64)) fun σ12 => some ((0 : Int32), σ12) else none))
noncomputable def m_X0_away_L18 (σ : st_T) (t1 : Int32) (t2 : Int64) : Option (Int32 × st_T) := if gN_ σ 100 = 1 then if t1 = 0 then lt_ (sO_ σ t2) fun σ3 => some ((0 : Int32), σ3) else none else none
noncomputable def m_X0_away (σ : st_T) (a2 : Int32) (a3 : Int32) (a4 : Int32) : Option (Int32 × st_T) := bn2_ (m_X1_away σ a2 a3 a4) fun o7 σ8 => pif_ (kp_ σ σ8) (sm_ o7 (fun k9 => if k9 = 1 then lt_ (bX_ σ8) fun σ13 => ck2_ σ13 (some ((1 : Int32), σ13)) else none) (fun v10 => if v10 = 0 then m_X0_away_L18 σ8 (0 : Int32) (0 : Int64) else m_X0_away_L18 σ8 (0 : Int32) (1 : Int64)))
noncomputable def m_X0_rota (σ : st_T) (a2 : Int32) (a3 : Int32) (a4 : Int32) (a5 : Int32) : Option (Int32 × st_T) := bn2_ (m_X1_rota σ a2 a3 a4 a5) fun o3 σ4 => if 0 < gN_ σ 100 then if cu_ σ ≤ cu_ σ4 ∧ su_ σ ≤ su_ σ4 then ck2_ σ4 (sm_ o3 (fun k5 => if k5 = 1 then some ((1 : Int32), σ4) else none) (fun v6 => if gN_ σ4 100 = 1 then lt_ (sO_ σ4 ((v6).toInt64)) fun σ15 => some ((0 : Int32), σ15) else none)) else none else none
noncomputable def m_X0_loads (σ : st_T) (a2 : Int32) (a3 : Int32) : Option (Int32 × st_T) := bn2_ (m_X1_loads σ a2 a3) fun o3 σ4 => if 0 < gN_ σ 100 then if cu_ σ ≤ cu_ σ4 ∧ su_ σ ≤ su_ σ4 then ck2_ σ4 (sm_ o3 (fun k5 => if k5 = 1 then some ((1 : Int32), σ4) else none) (fun v6 => if gN_ σ4 100 = 1 then lt_ (sO_ σ4 ((v6).toInt64)) fun σ15 => some ((0 : Int32), σ15) else none)) else none else none
noncomputable def m_X0_find (σ : st_T) (a2 : Int32) (a3 : Int32) : Option (Int32 × st_T) := bn2_ (m_X1_find σ a2 a3) fun o3 σ4 => if 0 < gN_ σ 100 then if cu_ σ ≤ cu_ σ4 ∧ su_ σ ≤ su_ σ4 then ck2_ σ4 (sm_ o3 (fun k5 => if k5 = 3 then some ((1 : Int32), σ4) else if k5 = 1 then some ((2 : Int32), σ4) else none) (fun v6 => if gN_ σ4 100 = 1 then lt_ (sO_ σ4 ((v6).toInt64)) fun σ18 => some ((0 : Int32), σ18) else none)) else none else none
noncomputable def m_X0_harm (σ : st_T) (a2 : Int32) (a3 : Int32) (a4 : Int32) (a5 : Int32) : Option (Int32 × st_T) := (m_X1_harm σ a2 a3 a4 a5).bind fun o3 => sm_ o3 (fun k4 => if k4 = 1 then lt_ (bX_ σ) fun σ8 => ck2_ σ8 (some ((1 : Int32), σ8)) else none) (fun v5 => if gN_ σ 100 = 1 then lt_ (sO_ σ ((v5).toInt64)) fun σ11 => some ((0 : Int32), σ11) else none)
noncomputable def m_X0_fund (σ : st_T) (a2 : Int32) : Option (Int32 × st_T) := bn2_ (m_X1_fund σ a2) fun o3 σ4 => pif_ (kp_ σ σ4) (sm_ o3 (fun k5 => if k5 = 1 then lt_ (bX_ σ4) fun σ9 => ck2_ σ9 (some ((1 : Int32), σ9)) else none) (fun v6 => if gN_ σ4 100 = 1 then lt_ (sO_ σ4 ((v6).toInt64)) fun σ12 => some ((0 : Int32), σ12) else none))
noncomputable def m_X0_judge (σ : st_T) (a2 : Int32) (a3 : Int32) (a4 : Int32) (a5 : Int32) : Option (Int32 × st_T) := bn2_ (m_X1_judge σ a2 a3 a4 a5) fun o3 σ4 => pif_ (kp_ σ σ4) (sm_ o3 (fun k5 => if k5 = 3 then lt_ (bX_ σ4) fun σ9 => ck2_ σ9 (some ((1 : Int32), σ9)) else if k5 = 1 then lt_ (bX_ σ4) fun σ13 => ck2_ σ13 (some ((2 : Int32), σ13)) else none) (fun v6 => if gN_ σ4 100 = 1 then lt_ (sO_ σ4 ((v6).toInt64)) fun σ16 => some ((0 : Int32), σ16) else none))
noncomputable def m_X0_claim (σ : st_T) (a2 : Int32) (a3 : Int32) : Option (Int32 × st_T) := (m_X1_claim σ a2 a3).bind fun o3 => sm_ o3 (fun k4 => if k4 = 3 then lt_ (bX_ σ) fun σ8 => ck2_ σ8 (some ((1 : Int32), σ8)) else if k4 = 1 then lt_ (bX_ σ) fun σ12 => ck2_ σ12 (some ((2 : Int32), σ12)) else none) (fun v5 => if gN_ σ 100 = 1 then lt_ (sO_ σ ((v5).toInt64)) fun σ15 => some ((0 : Int32), σ15) else none)
noncomputable def m_X0_fix (σ : st_T) (a2 : Int32) (a3 : Int32) (a4 : Int32) : Option (Int32 × st_T) := bn2_ (m_X1_fix σ a2 a3 a4) fun o3 σ4 => pif_ (kp_ σ σ4) (sm_ o3 (fun k5 => if k5 = 3 then lt_ (bX_ σ4) fun σ9 => ck2_ σ9 (some ((1 : Int32), σ9)) else if k5 = 0 then lt_ (bX_ σ4) fun σ13 => ck2_ σ13 (some ((2 : Int32), σ13)) else if k5 = 1 then lt_ (bX_ σ4) fun σ17 => ck2_ σ17 (some ((3 : Int32), σ17)) else none) (fun v6 => if gN_ σ4 100 = 1 then lt_ (sO_ σ4 ((v6).toInt64)) fun σ20 => some ((0 : Int32), σ20) else none))
noncomputable def m_X0_mayBe_L18 (σ : st_T) (t1 : Int32) (t2 : Int64) : Option (Int32 × st_T) := if gN_ σ 100 = 1 then if t1 = 0 then lt_ (sO_ σ t2) fun σ3 => some ((0 : Int32), σ3) else none else none
noncomputable def m_X0_mayBe (σ : st_T) (a2 : Int32) (a3 : Int32) (a4 : Int32) : Option (Int32 × st_T) := bn2_ (m_X1_mayBe σ a2 a3 a4) fun o7 σ8 => pif_ (kp_ σ σ8) (sm_ o7 (fun k9 => if k9 = 3 then lt_ (bX_ σ8) fun σ13 => ck2_ σ13 (some ((1 : Int32), σ13)) else if k9 = 0 then lt_ (bX_ σ8) fun σ17 => ck2_ σ17 (some ((2 : Int32), σ17)) else if k9 = 1 then lt_ (bX_ σ8) fun σ21 => ck2_ σ21 (some ((3 : Int32), σ21)) else none) (fun v10 => if v10 = 0 then m_X0_mayBe_L18 σ8 (0 : Int32) (0 : Int64) else m_X0_mayBe_L18 σ8 (0 : Int32) (1 : Int64)))
noncomputable def m_X0_spots (σ : st_T) (a2 : Int32) (a3 : Int32) : Option (Int32 × st_T) := bn2_ (m_X1_spots σ a2 a3) fun o3 σ4 => pif_ (kp_ σ σ4) (sm_ o3 (fun k5 => if k5 = 3 then lt_ (bX_ σ4) fun σ9 => ck2_ σ9 (some ((1 : Int32), σ9)) else if k5 = 1 then lt_ (bX_ σ4) fun σ13 => ck2_ σ13 (some ((2 : Int32), σ13)) else none) (fun v6 => if gN_ σ4 100 = 1 then lt_ (sO_ σ4 ((v6).toInt64)) fun σ16 => some ((0 : Int32), σ16) else none))
noncomputable def m_X0_wire (σ : st_T) (a2 : Int32) (a3 : Int32) (a4 : Int32) : Option (Int32 × st_T) := bn2_ (m_X1_wire σ a2 a3 a4) fun o3 σ4 => if 0 < gN_ σ 100 then if cu_ σ ≤ cu_ σ4 ∧ su_ σ ≤ su_ σ4 then ck2_ σ4 (sm_ o3 (fun k5 => if k5 = 0 then some ((1 : Int32), σ4) else if k5 = 1 then some ((2 : Int32), σ4) else none) (fun v6 => if gN_ σ4 100 = 1 then lt_ (sO_ σ4 ((v6).toInt64)) fun σ18 => some ((0 : Int32), σ18) else none)) else none else none
noncomputable def m_X0_wind (σ : st_T) (a2 : Int32) (a3 : Int32) : Option (Int32 × st_T) := bn2_ (m_X1_wind σ a2 a3) fun o3 σ4 => pif_ (kp_ σ σ4) (sm_ o3 (fun k5 => if k5 = 1 then lt_ (bX_ σ4) fun σ9 => ck2_ σ9 (some ((1 : Int32), σ9)) else none) (fun v6 => if gN_ σ4 100 = 1 then lt_ (sO_ σ4 ((v6).toInt64)) fun σ12 => some ((0 : Int32), σ12) else none))
noncomputable def m_X0_trip (σ : st_T) (a2 : Int32) (a3 : Int32) : Option (Int32 × st_T) := bn2_ (m_X1_trip σ a2 a3) fun o3 σ4 => if 0 < gN_ σ 100 then if cu_ σ ≤ cu_ σ4 ∧ su_ σ ≤ su_ σ4 then ck2_ σ4 (sm_ o3 (fun k5 => if k5 = 3 then some ((1 : Int32), σ4) else if k5 = 1 then some ((2 : Int32), σ4) else none) (fun v6 => if gN_ σ4 100 = 1 then lt_ (sO_ σ4 ((v6).toInt64)) fun σ18 => some ((0 : Int32), σ18) else none)) else none else none
noncomputable def m_X0_cause (σ : st_T) (a2 : Int32) : Option (Int32 × st_T) := bn2_ (m_X1_cause σ a2) fun o3 σ4 => pif_ (kp_ σ σ4) (sm_ o3 (fun k5 => if k5 = 3 then lt_ (bX_ σ4) fun σ9 => ck2_ σ9 (some ((1 : Int32), σ9)) else none) (fun v6 => if gN_ σ4 100 = 1 then lt_ (sO_ σ4 ((v6).toInt64)) fun σ12 => some ((0 : Int32), σ12) else none))
noncomputable def m_X0_causes (σ : st_T) (a2 : Int32) (a3 : Int32) : Option (Int32 × st_T) := bn2_ (m_X1_causes σ a2 a3) fun o3 σ4 => pif_ (kp_ σ σ4) (sm_ o3 (fun k5 => if k5 = 3 then lt_ (bX_ σ4) fun σ9 => ck2_ σ9 (some ((1 : Int32), σ9)) else if k5 = 1 then lt_ (bX_ σ4) fun σ13 => ck2_ σ13 (some ((2 : Int32), σ13)) else none) (fun v6 => if gN_ σ4 100 = 1 then lt_ (sO_ σ4 ((v6).toInt64)) fun σ16 => some ((0 : Int32), σ16) else none))
noncomputable def m_X0_called (σ : st_T) (a2 : Int32) (a3 : Int32) : Option (Int32 × st_T) := bn2_ (m_X1_called σ a2 a3) fun o3 σ4 => pif_ (kp_ σ σ4) (sm_ o3 (fun k5 => if k5 = 3 then lt_ (bX_ σ4) fun σ9 => ck2_ σ9 (some ((1 : Int32), σ9)) else none) (fun v6 => if gN_ σ4 100 = 1 then lt_ (sO_ σ4 ((v6).toInt64)) fun σ12 => some ((0 : Int32), σ12) else none))
noncomputable def m_X0_dusk (σ : st_T) (a2 : Int32) (a3 : Int32) (a4 : Int32) : Option (Int32 × st_T) := bn2_ (m_X1_dusk σ a2 a3 a4) fun o3 σ4 => if 0 < gN_ σ 100 then if cu_ σ ≤ cu_ σ4 ∧ su_ σ ≤ su_ σ4 then ck2_ σ4 (sm_ o3 (fun k5 => if k5 = 0 then some ((1 : Int32), σ4) else if k5 = 1 then some ((2 : Int32), σ4) else none) (fun v6 => if gN_ σ4 100 = 1 then lt_ (sO_ σ4 ((v6).toInt64)) fun σ18 => some ((0 : Int32), σ18) else none)) else none else none
noncomputable def m_X0_lease_L16 (σ : st_T) (t1 : Int32) (t2 : Int64) : Option (Int32 × st_T) := if gN_ σ 100 = 1 then if t1 = 0 then lt_ (sO_ σ t2) fun σ3 => some ((0 : Int32), σ3) else none else none
noncomputable def m_X0_lease (σ : st_T) (a2 : Int32) (a3 : Int32) : Option (Int32 × st_T) := bn2_ (m_X1_lease σ a2 a3) fun o7 σ8 => pif_ (kp_ σ σ8) (sm_ o7 (fun k9 => if k9 = 0 then lt_ (bX_ σ8) fun σ13 => ck2_ σ13 (some ((1 : Int32), σ13)) else none) (fun v10 => if v10 = 0 then m_X0_lease_L16 σ8 (0 : Int32) (0 : Int64) else m_X0_lease_L16 σ8 (0 : Int32) (1 : Int64)))
noncomputable def m_X0_rent (σ : st_T) (a2 : Int32) (a3 : Int32) : Option (Int32 × st_T) := bn2_ (m_X1_rent σ a2 a3) fun o3 σ4 => pif_ (kp_ σ σ4) (sm_ o3 (fun k5 => if k5 = 0 then lt_ (bX_ σ4) fun σ9 => ck2_ σ9 (some ((1 : Int32), σ9)) else if k5 = 1 then lt_ (bX_ σ4) fun σ13 => ck2_ σ13 (some ((2 : Int32), σ13)) else none) (fun v6 => if gN_ σ4 100 = 1 then lt_ (sO_ σ4 ((v6).toInt64)) fun σ16 => some ((0 : Int32), σ16) else none))
noncomputable def m_X0_rents (σ : st_T) (a2 : Int32) (a3 : Int32) : Option (Int32 × st_T) := bn2_ (m_X1_rents σ a2 a3) fun o3 σ4 => if 0 < gN_ σ 100 then if cu_ σ ≤ cu_ σ4 ∧ su_ σ ≤ su_ σ4 then ck2_ σ4 (sm_ o3 (fun k5 => if k5 = 0 then some ((1 : Int32), σ4) else none) (fun v6 => if gN_ σ4 100 = 1 then lt_ (sO_ σ4 ((v6).toInt64)) fun σ15 => some ((0 : Int32), σ15) else none)) else none else none
noncomputable def m_X0_gap (σ : st_T) (a2 : Int32) (a3 : Int32) (a4 : Int32) : Option (Int32 × st_T) := bn2_ (m_X1_gap σ a2 a3 a4) fun o3 σ4 => if 0 < gN_ σ 100 then if cu_ σ ≤ cu_ σ4 ∧ su_ σ ≤ su_ σ4 then ck2_ σ4 (sm_ o3 (fun k5 => if k5 = 0 then some ((1 : Int32), σ4) else none) (fun v6 => if gN_ σ4 100 = 1 then lt_ (sO_ σ4 ((v6).toInt64)) fun σ15 => some ((0 : Int32), σ15) else none)) else none else none
set_option maxHeartbeats 4000000 in
theorem c_X0_land (g : wg_T) (hgm : gm g = true) (l : Launch) (L : ly_T) (σ : st_T) (a2 : Int32) (a3 : Int32) (hst : l.stackTraces = false) (r_ : Int32) (σ_ : st_T) (hs : m_X0_land σ a2 a3 = some (r_, σ_)) : AI g l yX0_land (wsW_ yX0_land cX0_land 5 (some .int) [(0, 10, 13, 13), (0, 10, 17, 15), (0, 10, 21, 17)]) 10 196 [.ref (L 1 0), .int a2, .int a3, .ref (L 100 0)] L σ r_ σ_ := by
  refine hbody.metN (by decide) (Nat.le_of_ble_eq_true rfl) ?_
  intro p e s m args below meth c ls hx hb hr hml hlocks hts hown hnm htab hW hl
  have hown : s.vm.findClass RX0 = some m.cls := hown
  obtain ⟨L0, hL0⟩ : ∃ L0, L0 = L := ⟨_, rfl⟩
  obtain ⟨σ0, hσ0⟩ : ∃ σ0, σ0 = σ := ⟨_, rfl⟩
  rw [← hσ0, ← hL0]
  have hx0 : lext L0 σ0 L σ := by rw [hL0, hσ0]; exact lext.refl
  have hcs : bk σ0 σ 0 0 := bk.start hσ0
  have hrm : 0 ≤ cu_ σ_ - cu_ σ0 ∧ 0 ≤ su_ σ_ - su_ σ0 := ⟨Nat.zero_le _, Nat.zero_le _⟩
  have hl : lv_has ls 5 [(0, .ref (L 1 0)), (1, .int a2), (2, .int a3), (3, .ref (L 100 0))] := hl
  unfold m_X0_land at hs
  refine lv_aload_n hx hb dX0_land_0 rfl (lv_at hl 3 rfl) ?_
  refine lv_iconst (v := 0) hx hb dX0_land_1 (by decide) ?_
  refine lv_aload_n hx hb dX0_land_2 rfl (lv_at hl 0 rfl) ?_
  refine lv_iload_n hx hb dX0_land_3 rfl (lv_at hl 1 rfl) ?_
  refine lv_iload_n hx hb dX0_land_4 rfl (lv_at hl 2 rfl) ?_
  obtain ⟨o3, σ4, hc1, hs⟩ := ww_bn2 hs
  obtain ⟨hkp, hs⟩ := ww_pif hs
  obtain ⟨hx0, hcs⟩ := lx_s hx0 hcs hkp
  rcases o3 with k5 | v6
  · have hs := ww_sL hs
    by_cases hk7 : k5 = 0
    · have hs := ww_T hs hk7
      rw [hk7] at hc1
      obtain ⟨σ9, e10, hs⟩ := ww_let hs
      obtain ⟨hs, hck⟩ := ww_ck2 hs
      have hrm1 := hcs.room (σ1 := σ9) (a := 1) (b := 6) (by rw [e10]; rfl) (by rw [e10]; rfl) hck
      refine ww_catN (hpc := 13) (vx_runV (As := [.int a2, .int a3]) (rest := [.int (0 : Int32), .ref (L 100 0)]) ⟨hx, hb, hml, hown, hts⟩ (c_X1_land g hgm l L σ a2 a3 hst _ _ hc1) (cwV 2 hts (lw_V q817 q818 q819 q111 q820) rfl rfl rfl hd_X1_land ⟨(Nat.le_of_ble_eq_true rfl), (Nat.le_of_ble_eq_true rfl)⟩) (ww_preV hW (pr_st (hW.rd hgm) (Nat.le_of_ble_eq_true rfl)) (obv_0 rfl) rfl) rfl rfl hl.1 rfl (lv_room (Nat.le_of_ble_eq_true rfl)) dX0_land_5 hrm1) no_i hW (fun H1 locs1 q ce cells1 slots1 h1 h2 h3 kk => vx_catch (own := RX0) (name := exN 0) hown [] ⟨0, 10, 13, 13⟩ [⟨0, 10, 17, 15⟩, ⟨0, 10, 21, 17⟩] (htab.trans rfl) (fun z hz => by cases hz) rfl (by decide) (hts _ q737) (va_Nw.use rfl (hW.nw 41 rfl)) h1 h2 h3 kk) (fun H locs q8 hW => ?_)
      rw [← e10] at hW
      have hx0 : lext L0 σ0 L σ9 := by rw [e10]; exact hx0.trans lext_bX
      have hcs := hcs.more (σ1 := σ9) (a := 1) (b := 6) (by rw [e10]; rfl) (by rw [e10]; rfl)
      have hrm := hrm1
      refine lv_astore (lv' := [(4, .ref q8), (0, .ref (L 1 0)), (1, .int a2), (2, .int a3), (3, .ref (L 100 0))]) hx hb dX0_land_13 hl (by decide) rfl (fun ls hl => ?_)
      refine lv_iconst (v := 1) hx hb dX0_land_15 (by decide) ?_
      have hs := ww_S hs
      exact vx_ret (wa_i hx hb hr hlocks hx0 hcs hW (congrArg Prod.fst hs) (congrArg Prod.snd hs) dX0_land_16)
    · have hs := ww_F hs hk7
      by_cases hk11 : k5 = 1
      · have hs := ww_T hs hk11
        rw [hk11] at hc1
        obtain ⟨σ13, e14, hs⟩ := ww_let hs
        obtain ⟨hs, hck⟩ := ww_ck2 hs
        have hrm1 := hcs.room (σ1 := σ13) (a := 1) (b := 6) (by rw [e14]; rfl) (by rw [e14]; rfl) hck
        refine ww_catN (hpc := 17) (vx_runV (As := [.int a2, .int a3]) (rest := [.int (0 : Int32), .ref (L 100 0)]) ⟨hx, hb, hml, hown, hts⟩ (c_X1_land g hgm l L σ a2 a3 hst _ _ hc1) (cwV 2 hts (lw_V q817 q818 q819 q111 q820) rfl rfl rfl hd_X1_land ⟨(Nat.le_of_ble_eq_true rfl), (Nat.le_of_ble_eq_true rfl)⟩) (ww_preV hW (pr_st (hW.rd hgm) (Nat.le_of_ble_eq_true rfl)) (obv_0 rfl) rfl) rfl rfl hl.1 rfl (lv_room (Nat.le_of_ble_eq_true rfl)) dX0_land_5 hrm1) no_i hW (fun H1 locs1 q ce cells1 slots1 h1 h2 h3 kk => vx_catch (own := RX0) (name := exN 1) hown [⟨0, 10, 13, 13⟩] ⟨0, 10, 17, 15⟩ [⟨0, 10, 21, 17⟩] (htab.trans rfl) (fun z hz => by simp only [List.mem_cons, List.not_mem_nil, or_false] at hz; rcases hz with rfl <;> first | exact Or.inr ⟨by decide, _, hts _ q737, hW.1.2.2.2.2.2.2.2.2.2.2.2.2.2.2.2 1 0 (by decide) (by decide) (by decide)⟩) rfl (by decide) (hts _ q815) (va_Nw.use rfl (hW.nw 42 rfl)) h1 h2 h3 kk) (fun H locs q12 hW => ?_)
        rw [← e14] at hW
        have hx0 : lext L0 σ0 L σ13 := by rw [e14]; exact hx0.trans lext_bX
        have hcs := hcs.more (σ1 := σ13) (a := 1) (b := 6) (by rw [e14]; rfl) (by rw [e14]; rfl)
        have hrm := hrm1
        refine lv_astore (lv' := [(4, .ref q12), (0, .ref (L 1 0)), (1, .int a2), (2, .int a3), (3, .ref (L 100 0))]) hx hb dX0_land_17 hl (by decide) rfl (fun ls hl => ?_)
        refine lv_iconst (v := 2) hx hb dX0_land_19 (by decide) ?_
        have hs := ww_S hs
        exact vx_ret (wa_i hx hb hr hlocks hx0 hcs hW (congrArg Prod.fst hs) (congrArg Prod.snd hs) dX0_land_20)
      · have hs := ww_F hs hk11
        by_cases hk15 : k5 = 2
        · have hs := ww_T hs hk15
          rw [hk15] at hc1
          obtain ⟨σ17, e18, hs⟩ := ww_let hs
          obtain ⟨hs, hck⟩ := ww_ck2 hs
          have hrm1 := hcs.room (σ1 := σ17) (a := 1) (b := 6) (by rw [e18]; rfl) (by rw [e18]; rfl) hck
          refine ww_catN (hpc := 21) (vx_runV (As := [.int a2, .int a3]) (rest := [.int (0 : Int32), .ref (L 100 0)]) ⟨hx, hb, hml, hown, hts⟩ (c_X1_land g hgm l L σ a2 a3 hst _ _ hc1) (cwV 2 hts (lw_V q817 q818 q819 q111 q820) rfl rfl rfl hd_X1_land ⟨(Nat.le_of_ble_eq_true rfl), (Nat.le_of_ble_eq_true rfl)⟩) (ww_preV hW (pr_st (hW.rd hgm) (Nat.le_of_ble_eq_true rfl)) (obv_0 rfl) rfl) rfl rfl hl.1 rfl (lv_room (Nat.le_of_ble_eq_true rfl)) dX0_land_5 hrm1) no_i hW (fun H1 locs1 q ce cells1 slots1 h1 h2 h3 kk => vx_catch (own := RX0) (name := exN 2) hown [⟨0, 10, 13, 13⟩, ⟨0, 10, 17, 15⟩] ⟨0, 10, 21, 17⟩ [] (htab.trans rfl) (fun z hz => by simp only [List.mem_cons, List.not_mem_nil, or_false] at hz; rcases hz with rfl | rfl <;> first | exact Or.inr ⟨by decide, _, hts _ q737, hW.1.2.2.2.2.2.2.2.2.2.2.2.2.2.2.2 2 0 (by decide) (by decide) (by decide)⟩ | exact Or.inr ⟨by decide, _, hts _ q815, hW.1.2.2.2.2.2.2.2.2.2.2.2.2.2.2.2 2 1 (by decide) (by decide) (by decide)⟩) rfl (by decide) (hts _ q816) (va_Nw.use rfl (hW.nw 43 rfl)) h1 h2 h3 kk) (fun H locs q16 hW => ?_)
          rw [← e18] at hW
          have hx0 : lext L0 σ0 L σ17 := by rw [e18]; exact hx0.trans lext_bX
          have hcs := hcs.more (σ1 := σ17) (a := 1) (b := 6) (by rw [e18]; rfl) (by rw [e18]; rfl)
          have hrm := hrm1
          refine lv_astore (lv' := [(4, .ref q16), (0, .ref (L 1 0)), (1, .int a2), (2, .int a3), (3, .ref (L 100 0))]) hx hb dX0_land_21 hl (by decide) rfl (fun ls hl => ?_)
          refine lv_iconst (v := 3) hx hb dX0_land_23 (by decide) ?_
          have hs := ww_S hs
          exact vx_ret (wa_i hx hb hr hlocks hx0 hcs hW (congrArg Prod.fst hs) (congrArg Prod.snd hs) dX0_land_24)
        · have hs := ww_F hs hk15
          cases hs
  · have hs := ww_sR hs
    refine ww_xi0 (vx_runV (As := [.int a2, .int a3]) (rest := [.int (0 : Int32), .ref (L 100 0)]) ⟨hx, hb, hml, hown, hts⟩ (c_X1_land g hgm l L σ a2 a3 hst _ _ hc1) (cwV 2 hts (lw_V q817 q818 q819 q111 q820) rfl rfl rfl hd_X1_land ⟨(Nat.le_of_ble_eq_true rfl), (Nat.le_of_ble_eq_true rfl)⟩) (ww_preV hW (pr_st (hW.rd hgm) (Nat.le_of_ble_eq_true rfl)) (obv_0 rfl) rfl) rfl rfl hl.1 rfl (lv_room (Nat.le_of_ble_eq_true rfl)) dX0_land_5 hrm) hW (fun H locs hW => ?_)
    refine lv_i2l hx hb dX0_land_8 rfl ?_
    obtain ⟨hc19, hs⟩ := ww_chk hs
    obtain ⟨σ20, e21, hs⟩ := ww_let hs
    refine ww_last hx hb hW hc19 (j := (0 : Int32)) rfl dX0_land_9 (fun H locs hW => ?_)
    have hW : wv g L σ20 s H locs := by rw [e21]; exact hW
    obtain ⟨hx0, hcs⟩ := lx_s (σ1 := σ20) hx0 hcs (by rw [e21]; exact kp_O)
    refine lv_goto (tgt := 25) hx hb dX0_land_10 (by decide) ?_
    refine lv_iconst (v := 0) hx hb dX0_land_25 (by decide) ?_
    have hs := ww_S hs
    exact vx_ret (wa_i hx hb hr hlocks hx0 hcs hW (congrArg Prod.fst hs) (congrArg Prod.snd hs) dX0_land_26)
set_option maxHeartbeats 4000000 in
theorem c_X0_field (g : wg_T) (hgm : gm g = true) (l : Launch) (L : ly_T) (σ : st_T) (a2 : Int32) (a3 : Int32) (a4 : Int32) (a5 : Int32) (hst : l.stackTraces = false) (r_ : Int32) (σ_ : st_T) (hs : m_X0_field σ a2 a3 a4 a5 = some (r_, σ_)) : AI g l yX0_field (wsW_ yX0_field cX0_field 7 (some .int) [(0, 14, 17, 13), (0, 14, 21, 15)]) 11 205 [.ref (L 1 0), .int a2, .int a3, .int a4, .int a5, .ref (L 100 0)] L σ r_ σ_ := by
  refine hbody.metN (by decide) (Nat.le_of_ble_eq_true rfl) ?_
  intro p e s m args below meth c ls hx hb hr hml hlocks hts hown hnm htab hW hl
  have hown : s.vm.findClass RX0 = some m.cls := hown
  obtain ⟨L0, hL0⟩ : ∃ L0, L0 = L := ⟨_, rfl⟩
  obtain ⟨σ0, hσ0⟩ : ∃ σ0, σ0 = σ := ⟨_, rfl⟩
  rw [← hσ0, ← hL0]
  have hx0 : lext L0 σ0 L σ := by rw [hL0, hσ0]; exact lext.refl
  have hcs : bk σ0 σ 0 0 := bk.start hσ0
  have hrm : 0 ≤ cu_ σ_ - cu_ σ0 ∧ 0 ≤ su_ σ_ - su_ σ0 := ⟨Nat.zero_le _, Nat.zero_le _⟩
  have hl : lv_has ls 7 [(0, .ref (L 1 0)), (1, .int a2), (2, .int a3), (3, .int a4), (4, .int a5), (5, .ref (L 100 0))] := hl
  unfold m_X0_field at hs
  refine lv_aload hx hb dX0_field_0 (lv_at hl 5 rfl) ?_
  refine lv_iconst (v := 0) hx hb dX0_field_2 (by decide) ?_
  refine lv_aload_n hx hb dX0_field_3 rfl (lv_at hl 0 rfl) ?_
  refine lv_iload_n hx hb dX0_field_4 rfl (lv_at hl 1 rfl) ?_
  refine lv_iload_n hx hb dX0_field_5 rfl (lv_at hl 2 rfl) ?_
  refine lv_iload_n hx hb dX0_field_6 rfl (lv_at hl 3 rfl) ?_
  refine lv_iload hx hb dX0_field_7 (lv_at hl 4 rfl) ?_
  obtain ⟨o3, σ4, hc1, hs⟩ := ww_bn2 hs
  obtain ⟨hkp, hs⟩ := ww_pif hs
  obtain ⟨hx0, hcs⟩ := lx_s hx0 hcs hkp
  rcases o3 with k5 | v6
  · have hs := ww_sL hs
    by_cases hk7 : k5 = 0
    · have hs := ww_T hs hk7
      rw [hk7] at hc1
      obtain ⟨σ9, e10, hs⟩ := ww_let hs
      obtain ⟨hs, hck⟩ := ww_ck2 hs
      have hrm1 := hcs.room (σ1 := σ9) (a := 1) (b := 6) (by rw [e10]; rfl) (by rw [e10]; rfl) hck
      refine ww_catN (hpc := 17) (vx_runV (As := [.int a2, .int a3, .int a4, .int a5]) (rest := [.int (0 : Int32), .ref (L 100 0)]) ⟨hx, hb, hml, hown, hts⟩ (c_X1_field g hgm l L σ a2 a3 a4 a5 hst _ _ hc1) (cwV 4 hts (lw_V q892 q893 q894 q111 q895) rfl rfl rfl hd_X1_field ⟨(Nat.le_of_ble_eq_true rfl), (Nat.le_of_ble_eq_true rfl)⟩) (ww_preV hW (pr_st (hW.rd hgm) (Nat.le_of_ble_eq_true rfl)) (obv_0 rfl) rfl) rfl rfl hl.1 rfl (lv_room (Nat.le_of_ble_eq_true rfl)) dX0_field_9 hrm1) no_i hW (fun H1 locs1 q ce cells1 slots1 h1 h2 h3 kk => vx_catch (own := RX0) (name := exN 0) hown [] ⟨0, 14, 17, 13⟩ [⟨0, 14, 21, 15⟩] (htab.trans rfl) (fun z hz => by cases hz) rfl (by decide) (hts _ q737) (va_Nw.use rfl (hW.nw 41 rfl)) h1 h2 h3 kk) (fun H locs q8 hW => ?_)
      rw [← e10] at hW
      have hx0 : lext L0 σ0 L σ9 := by rw [e10]; exact hx0.trans lext_bX
      have hcs := hcs.more (σ1 := σ9) (a := 1) (b := 6) (by rw [e10]; rfl) (by rw [e10]; rfl)
      have hrm := hrm1
      refine lv_astore (lv' := [(6, .ref q8), (0, .ref (L 1 0)), (1, .int a2), (2, .int a3), (3, .int a4), (4, .int a5), (5, .ref (L 100 0))]) hx hb dX0_field_17 hl (by decide) rfl (fun ls hl => ?_)
      refine lv_iconst (v := 1) hx hb dX0_field_19 (by decide) ?_
      have hs := ww_S hs
      exact vx_ret (wa_i hx hb hr hlocks hx0 hcs hW (congrArg Prod.fst hs) (congrArg Prod.snd hs) dX0_field_20)
    · have hs := ww_F hs hk7
      by_cases hk11 : k5 = 1
      · have hs := ww_T hs hk11
        rw [hk11] at hc1
        obtain ⟨σ13, e14, hs⟩ := ww_let hs
        obtain ⟨hs, hck⟩ := ww_ck2 hs
        have hrm1 := hcs.room (σ1 := σ13) (a := 1) (b := 6) (by rw [e14]; rfl) (by rw [e14]; rfl) hck
        refine ww_catN (hpc := 21) (vx_runV (As := [.int a2, .int a3, .int a4, .int a5]) (rest := [.int (0 : Int32), .ref (L 100 0)]) ⟨hx, hb, hml, hown, hts⟩ (c_X1_field g hgm l L σ a2 a3 a4 a5 hst _ _ hc1) (cwV 4 hts (lw_V q892 q893 q894 q111 q895) rfl rfl rfl hd_X1_field ⟨(Nat.le_of_ble_eq_true rfl), (Nat.le_of_ble_eq_true rfl)⟩) (ww_preV hW (pr_st (hW.rd hgm) (Nat.le_of_ble_eq_true rfl)) (obv_0 rfl) rfl) rfl rfl hl.1 rfl (lv_room (Nat.le_of_ble_eq_true rfl)) dX0_field_9 hrm1) no_i hW (fun H1 locs1 q ce cells1 slots1 h1 h2 h3 kk => vx_catch (own := RX0) (name := exN 1) hown [⟨0, 14, 17, 13⟩] ⟨0, 14, 21, 15⟩ [] (htab.trans rfl) (fun z hz => by simp only [List.mem_cons, List.not_mem_nil, or_false] at hz; rcases hz with rfl <;> first | exact Or.inr ⟨by decide, _, hts _ q737, hW.1.2.2.2.2.2.2.2.2.2.2.2.2.2.2.2 1 0 (by decide) (by decide) (by decide)⟩) rfl (by decide) (hts _ q815) (va_Nw.use rfl (hW.nw 42 rfl)) h1 h2 h3 kk) (fun H locs q12 hW => ?_)
        rw [← e14] at hW
        have hx0 : lext L0 σ0 L σ13 := by rw [e14]; exact hx0.trans lext_bX
        have hcs := hcs.more (σ1 := σ13) (a := 1) (b := 6) (by rw [e14]; rfl) (by rw [e14]; rfl)
        have hrm := hrm1
        refine lv_astore (lv' := [(6, .ref q12), (0, .ref (L 1 0)), (1, .int a2), (2, .int a3), (3, .int a4), (4, .int a5), (5, .ref (L 100 0))]) hx hb dX0_field_21 hl (by decide) rfl (fun ls hl => ?_)
        refine lv_iconst (v := 2) hx hb dX0_field_23 (by decide) ?_
        have hs := ww_S hs
        exact vx_ret (wa_i hx hb hr hlocks hx0 hcs hW (congrArg Prod.fst hs) (congrArg Prod.snd hs) dX0_field_24)
      · have hs := ww_F hs hk11
        cases hs
  · have hs := ww_sR hs
    refine ww_xi0 (vx_runV (As := [.int a2, .int a3, .int a4, .int a5]) (rest := [.int (0 : Int32), .ref (L 100 0)]) ⟨hx, hb, hml, hown, hts⟩ (c_X1_field g hgm l L σ a2 a3 a4 a5 hst _ _ hc1) (cwV 4 hts (lw_V q892 q893 q894 q111 q895) rfl rfl rfl hd_X1_field ⟨(Nat.le_of_ble_eq_true rfl), (Nat.le_of_ble_eq_true rfl)⟩) (ww_preV hW (pr_st (hW.rd hgm) (Nat.le_of_ble_eq_true rfl)) (obv_0 rfl) rfl) rfl rfl hl.1 rfl (lv_room (Nat.le_of_ble_eq_true rfl)) dX0_field_9 hrm) hW (fun H locs hW => ?_)
    refine lv_i2l hx hb dX0_field_12 rfl ?_
    obtain ⟨hc15, hs⟩ := ww_chk hs
    obtain ⟨σ16, e17, hs⟩ := ww_let hs
    refine ww_last hx hb hW hc15 (j := (0 : Int32)) rfl dX0_field_13 (fun H locs hW => ?_)
    have hW : wv g L σ16 s H locs := by rw [e17]; exact hW
    obtain ⟨hx0, hcs⟩ := lx_s (σ1 := σ16) hx0 hcs (by rw [e17]; exact kp_O)
    refine lv_goto (tgt := 25) hx hb dX0_field_14 (by decide) ?_
    refine lv_iconst (v := 0) hx hb dX0_field_25 (by decide) ?_
    have hs := ww_S hs
    exact vx_ret (wa_i hx hb hr hlocks hx0 hcs hW (congrArg Prod.fst hs) (congrArg Prod.snd hs) dX0_field_26)
set_option maxHeartbeats 4000000 in
theorem c_X0_stalks (g : wg_T) (hgm : gm g = true) (l : Launch) (L : ly_T) (σ : st_T) (a2 : Int32) (hst : l.stackTraces = false) (r_ : Int32) (σ_ : st_T) (hs : m_X0_stalks σ a2 = some (r_, σ_)) : AI g l yX0_stalks (wsW_ yX0_stalks cX0_stalks 4 (some .int) [(0, 9, 12, 13)]) 10 181 [.ref (L 1 0), .int a2, .ref (L 100 0)] L σ r_ σ_ := by
  refine hbody.metN (by decide) (Nat.le_of_ble_eq_true rfl) ?_
  intro p e s m args below meth c ls hx hb hr hml hlocks hts hown hnm htab hW hl
  have hown : s.vm.findClass RX0 = some m.cls := hown
  obtain ⟨L0, hL0⟩ : ∃ L0, L0 = L := ⟨_, rfl⟩
  obtain ⟨σ0, hσ0⟩ : ∃ σ0, σ0 = σ := ⟨_, rfl⟩
  rw [← hσ0, ← hL0]
  have hx0 : lext L0 σ0 L σ := by rw [hL0, hσ0]; exact lext.refl
  have hcs : bk σ0 σ 0 0 := bk.start hσ0
  have hrm : 0 ≤ cu_ σ_ - cu_ σ0 ∧ 0 ≤ su_ σ_ - su_ σ0 := ⟨Nat.zero_le _, Nat.zero_le _⟩
  have hl : lv_has ls 4 [(0, .ref (L 1 0)), (1, .int a2), (2, .ref (L 100 0))] := hl
  unfold m_X0_stalks at hs
  refine lv_aload_n hx hb dX0_stalks_0 rfl (lv_at hl 2 rfl) ?_
  refine lv_iconst (v := 0) hx hb dX0_stalks_1 (by decide) ?_
  refine lv_aload_n hx hb dX0_stalks_2 rfl (lv_at hl 0 rfl) ?_
  refine lv_iload_n hx hb dX0_stalks_3 rfl (lv_at hl 1 rfl) ?_
  obtain ⟨o3, hc1, hs⟩ := ww_bnd hs
  rcases o3 with k4 | v5
  · have hs := ww_sL hs
    by_cases hk6 : k4 = 0
    · have hs := ww_T hs hk6
      rw [hk6] at hc1
      obtain ⟨σ8, e9, hs⟩ := ww_let hs
      obtain ⟨hs, hck⟩ := ww_ck2 hs
      have hrm1 := hcs.room (σ1 := σ8) (a := 1) (b := 6) (by rw [e9]; rfl) (by rw [e9]; rfl) hck
      refine ww_catN (hpc := 12) (vx_runV (As := [.int a2]) (rest := [.int (0 : Int32), .ref (L 100 0)]) ⟨hx, hb, hml, hown, hts⟩ (c_X1_stalks g hgm l L σ a2 hst _ hc1) (cwV 1 hts (lw_V q902 q903 q904 q111 q905) rfl rfl rfl hd_X1_stalks ⟨(Nat.le_of_ble_eq_true rfl), (Nat.le_of_ble_eq_true rfl)⟩) (ww_preV hW (pr_st (hW.rd hgm) (Nat.le_of_ble_eq_true rfl)) (obv_0 rfl) rfl) rfl rfl hl.1 rfl (lv_room (Nat.le_of_ble_eq_true rfl)) dX0_stalks_4 hrm1) no_i hW (fun H1 locs1 q ce cells1 slots1 h1 h2 h3 kk => vx_catch (own := RX0) (name := exN 0) hown [] ⟨0, 9, 12, 13⟩ [] (htab.trans rfl) (fun z hz => by cases hz) rfl (by decide) (hts _ q737) (va_Nw.use rfl (hW.nw 41 rfl)) h1 h2 h3 kk) (fun H locs q7 hW => ?_)
      rw [← e9] at hW
      have hx0 : lext L0 σ0 L σ8 := by rw [e9]; exact hx0.trans lext_bX
      have hcs := hcs.more (σ1 := σ8) (a := 1) (b := 6) (by rw [e9]; rfl) (by rw [e9]; rfl)
      have hrm := hrm1
      refine lv_astore_n (lv' := [(3, .ref q7), (0, .ref (L 1 0)), (1, .int a2), (2, .ref (L 100 0))]) hx hb dX0_stalks_12 rfl hl (by decide) rfl (fun ls hl => ?_)
      refine lv_iconst (v := 1) hx hb dX0_stalks_13 (by decide) ?_
      have hs := ww_S hs
      exact vx_ret (wa_i hx hb hr hlocks hx0 hcs hW (congrArg Prod.fst hs) (congrArg Prod.snd hs) dX0_stalks_14)
    · have hs := ww_F hs hk6
      cases hs
  · have hs := ww_sR hs
    refine ww_xi0 (vx_runV (As := [.int a2]) (rest := [.int (0 : Int32), .ref (L 100 0)]) ⟨hx, hb, hml, hown, hts⟩ (c_X1_stalks g hgm l L σ a2 hst _ hc1) (cwV 1 hts (lw_V q902 q903 q904 q111 q905) rfl rfl rfl hd_X1_stalks ⟨(Nat.le_of_ble_eq_true rfl), (Nat.le_of_ble_eq_true rfl)⟩) (ww_preV hW (pr_st (hW.rd hgm) (Nat.le_of_ble_eq_true rfl)) (obv_0 rfl) rfl) rfl rfl hl.1 rfl (lv_room (Nat.le_of_ble_eq_true rfl)) dX0_stalks_4 hrm) hW (fun H locs hW => ?_)
    refine lv_i2l hx hb dX0_stalks_7 rfl ?_
    obtain ⟨hc10, hs⟩ := ww_chk hs
    obtain ⟨σ11, e12, hs⟩ := ww_let hs
    refine ww_last hx hb hW hc10 (j := (0 : Int32)) rfl dX0_stalks_8 (fun H locs hW => ?_)
    have hW : wv g L σ11 s H locs := by rw [e12]; exact hW
    obtain ⟨hx0, hcs⟩ := lx_s (σ1 := σ11) hx0 hcs (by rw [e12]; exact kp_O)
    refine lv_goto (tgt := 15) hx hb dX0_stalks_9 (by decide) ?_
    refine lv_iconst (v := 0) hx hb dX0_stalks_15 (by decide) ?_
    have hs := ww_S hs
    exact vx_ret (wa_i hx hb hr hlocks hx0 hcs hW (congrArg Prod.fst hs) (congrArg Prod.snd hs) dX0_stalks_16)
set_option maxHeartbeats 4000000 in
theorem c_X0_village (g : wg_T) (hgm : gm g = true) (l : Launch) (L : ly_T) (σ : st_T) (a2 : Int32) (a3 : Int32) (hst : l.stackTraces = false) (r_ : Int32) (σ_ : st_T) (hs : m_X0_village σ a2 a3 = some (r_, σ_)) : AI g l yX0_village (wsW_ yX0_village cX0_village 5 (some .int) [(0, 10, 13, 15)]) 11 203 [.ref (L 1 0), .int a2, .int a3, .ref (L 100 0)] L σ r_ σ_ := by
  refine hbody.metN (by decide) (Nat.le_of_ble_eq_true rfl) ?_
  intro p e s m args below meth c ls hx hb hr hml hlocks hts hown hnm htab hW hl
  have hown : s.vm.findClass RX0 = some m.cls := hown
  obtain ⟨L0, hL0⟩ : ∃ L0, L0 = L := ⟨_, rfl⟩
  obtain ⟨σ0, hσ0⟩ : ∃ σ0, σ0 = σ := ⟨_, rfl⟩
  rw [← hσ0, ← hL0]
  have hx0 : lext L0 σ0 L σ := by rw [hL0, hσ0]; exact lext.refl
  have hcs : bk σ0 σ 0 0 := bk.start hσ0
  have hrm : 0 ≤ cu_ σ_ - cu_ σ0 ∧ 0 ≤ su_ σ_ - su_ σ0 := ⟨Nat.zero_le _, Nat.zero_le _⟩
  have hl : lv_has ls 5 [(0, .ref (L 1 0)), (1, .int a2), (2, .int a3), (3, .ref (L 100 0))] := hl
  unfold m_X0_village at hs
  refine lv_aload_n hx hb dX0_village_0 rfl (lv_at hl 3 rfl) ?_
  refine lv_iconst (v := 0) hx hb dX0_village_1 (by decide) ?_
  refine lv_aload_n hx hb dX0_village_2 rfl (lv_at hl 0 rfl) ?_
  refine lv_iload_n hx hb dX0_village_3 rfl (lv_at hl 1 rfl) ?_
  refine lv_iload_n hx hb dX0_village_4 rfl (lv_at hl 2 rfl) ?_
  obtain ⟨o3, σ4, hc1, hs⟩ := ww_bn2 hs
  obtain ⟨hkp, hs⟩ := ww_pif hs
  obtain ⟨hx0, hcs⟩ := lx_s hx0 hcs hkp
  rcases o3 with k5 | v6
  · have hs := ww_sL hs
    by_cases hk7 : k5 = 1
    · have hs := ww_T hs hk7
      rw [hk7] at hc1
      obtain ⟨σ9, e10, hs⟩ := ww_let hs
      obtain ⟨hs, hck⟩ := ww_ck2 hs
      have hrm1 := hcs.room (σ1 := σ9) (a := 1) (b := 6) (by rw [e10]; rfl) (by rw [e10]; rfl) hck
      refine ww_catN (hpc := 13) (vx_runV (As := [.int a2, .int a3]) (rest := [.int (0 : Int32), .ref (L 100 0)]) ⟨hx, hb, hml, hown, hts⟩ (c_X1_village g hgm l L σ a2 a3 hst _ _ hc1) (cwV 2 hts (lw_V q909 q910 q911 q111 q912) rfl rfl rfl hd_X1_village ⟨(Nat.le_of_ble_eq_true rfl), (Nat.le_of_ble_eq_true rfl)⟩) (ww_preV hW (pr_st (hW.rd hgm) (Nat.le_of_ble_eq_true rfl)) (obv_0 rfl) rfl) rfl rfl hl.1 rfl (lv_room (Nat.le_of_ble_eq_true rfl)) dX0_village_5 hrm1) no_i hW (fun H1 locs1 q ce cells1 slots1 h1 h2 h3 kk => vx_catch (own := RX0) (name := exN 1) hown [] ⟨0, 10, 13, 15⟩ [] (htab.trans rfl) (fun z hz => by cases hz) rfl (by decide) (hts _ q815) (va_Nw.use rfl (hW.nw 42 rfl)) h1 h2 h3 kk) (fun H locs q8 hW => ?_)
      rw [← e10] at hW
      have hx0 : lext L0 σ0 L σ9 := by rw [e10]; exact hx0.trans lext_bX
      have hcs := hcs.more (σ1 := σ9) (a := 1) (b := 6) (by rw [e10]; rfl) (by rw [e10]; rfl)
      have hrm := hrm1
      refine lv_astore (lv' := [(4, .ref q8), (0, .ref (L 1 0)), (1, .int a2), (2, .int a3), (3, .ref (L 100 0))]) hx hb dX0_village_13 hl (by decide) rfl (fun ls hl => ?_)
      refine lv_iconst (v := 1) hx hb dX0_village_15 (by decide) ?_
      have hs := ww_S hs
      exact vx_ret (wa_i hx hb hr hlocks hx0 hcs hW (congrArg Prod.fst hs) (congrArg Prod.snd hs) dX0_village_16)
    · have hs := ww_F hs hk7
      cases hs
  · have hs := ww_sR hs
    refine ww_xi0 (vx_runV (As := [.int a2, .int a3]) (rest := [.int (0 : Int32), .ref (L 100 0)]) ⟨hx, hb, hml, hown, hts⟩ (c_X1_village g hgm l L σ a2 a3 hst _ _ hc1) (cwV 2 hts (lw_V q909 q910 q911 q111 q912) rfl rfl rfl hd_X1_village ⟨(Nat.le_of_ble_eq_true rfl), (Nat.le_of_ble_eq_true rfl)⟩) (ww_preV hW (pr_st (hW.rd hgm) (Nat.le_of_ble_eq_true rfl)) (obv_0 rfl) rfl) rfl rfl hl.1 rfl (lv_room (Nat.le_of_ble_eq_true rfl)) dX0_village_5 hrm) hW (fun H locs hW => ?_)
    refine lv_i2l hx hb dX0_village_8 rfl ?_
    obtain ⟨hc11, hs⟩ := ww_chk hs
    obtain ⟨σ12, e13, hs⟩ := ww_let hs
    refine ww_last hx hb hW hc11 (j := (0 : Int32)) rfl dX0_village_9 (fun H locs hW => ?_)
    have hW : wv g L σ12 s H locs := by rw [e13]; exact hW
    obtain ⟨hx0, hcs⟩ := lx_s (σ1 := σ12) hx0 hcs (by rw [e13]; exact kp_O)
    refine lv_goto (tgt := 17) hx hb dX0_village_10 (by decide) ?_
    refine lv_iconst (v := 0) hx hb dX0_village_17 (by decide) ?_
    have hs := ww_S hs
    exact vx_ret (wa_i hx hb hr hlocks hx0 hcs hW (congrArg Prod.fst hs) (congrArg Prod.snd hs) dX0_village_18)
set_option maxHeartbeats 4000000 in
theorem c_X0_fence (g : wg_T) (hgm : gm g = true) (l : Launch) (L : ly_T) (σ : st_T) (a2 : Int32) (a3 : Int32) (a4 : Int32) (a5 : Int32) (hst : l.stackTraces = false) (r_ : Int32) (σ_ : st_T) (hs : m_X0_fence σ a2 a3 a4 a5 = some (r_, σ_)) : AI g l yX0_fence (wsW_ yX0_fence cX0_fence 7 (some .int) [(0, 14, 17, 13), (0, 14, 21, 15)]) 11 206 [.ref (L 1 0), .int a2, .int a3, .int a4, .int a5, .ref (L 100 0)] L σ r_ σ_ := by
  refine hbody.metN (by decide) (Nat.le_of_ble_eq_true rfl) ?_
  intro p e s m args below meth c ls hx hb hr hml hlocks hts hown hnm htab hW hl
  have hown : s.vm.findClass RX0 = some m.cls := hown
  obtain ⟨L0, hL0⟩ : ∃ L0, L0 = L := ⟨_, rfl⟩
  obtain ⟨σ0, hσ0⟩ : ∃ σ0, σ0 = σ := ⟨_, rfl⟩
  rw [← hσ0, ← hL0]
  have hx0 : lext L0 σ0 L σ := by rw [hL0, hσ0]; exact lext.refl
  have hcs : bk σ0 σ 0 0 := bk.start hσ0
  have hrm : 0 ≤ cu_ σ_ - cu_ σ0 ∧ 0 ≤ su_ σ_ - su_ σ0 := ⟨Nat.zero_le _, Nat.zero_le _⟩
  have hl : lv_has ls 7 [(0, .ref (L 1 0)), (1, .int a2), (2, .int a3), (3, .int a4), (4, .int a5), (5, .ref (L 100 0))] := hl
  unfold m_X0_fence at hs
  refine lv_aload hx hb dX0_fence_0 (lv_at hl 5 rfl) ?_
  refine lv_iconst (v := 0) hx hb dX0_fence_2 (by decide) ?_
  refine lv_aload_n hx hb dX0_fence_3 rfl (lv_at hl 0 rfl) ?_
  refine lv_iload_n hx hb dX0_fence_4 rfl (lv_at hl 1 rfl) ?_
  refine lv_iload_n hx hb dX0_fence_5 rfl (lv_at hl 2 rfl) ?_
  refine lv_iload_n hx hb dX0_fence_6 rfl (lv_at hl 3 rfl) ?_
  refine lv_iload hx hb dX0_fence_7 (lv_at hl 4 rfl) ?_
  obtain ⟨o3, σ4, hc1, hs⟩ := ww_bn2 hs
  obtain ⟨hkp, hs⟩ := ww_pif hs
  obtain ⟨hx0, hcs⟩ := lx_s hx0 hcs hkp
  rcases o3 with k5 | v6
  · have hs := ww_sL hs
    by_cases hk7 : k5 = 0
    · have hs := ww_T hs hk7
      rw [hk7] at hc1
      obtain ⟨σ9, e10, hs⟩ := ww_let hs
      obtain ⟨hs, hck⟩ := ww_ck2 hs
      have hrm1 := hcs.room (σ1 := σ9) (a := 1) (b := 6) (by rw [e10]; rfl) (by rw [e10]; rfl) hck
      refine ww_catN (hpc := 17) (vx_runV (As := [.int a2, .int a3, .int a4, .int a5]) (rest := [.int (0 : Int32), .ref (L 100 0)]) ⟨hx, hb, hml, hown, hts⟩ (c_X1_fence g hgm l L σ a2 a3 a4 a5 hst _ _ hc1) (cwV 4 hts (lw_V q916 q917 q918 q111 q919) rfl rfl rfl hd_X1_fence ⟨(Nat.le_of_ble_eq_true rfl), (Nat.le_of_ble_eq_true rfl)⟩) (ww_preV hW (pr_st (hW.rd hgm) (Nat.le_of_ble_eq_true rfl)) (obv_0 rfl) rfl) rfl rfl hl.1 rfl (lv_room (Nat.le_of_ble_eq_true rfl)) dX0_fence_9 hrm1) no_i hW (fun H1 locs1 q ce cells1 slots1 h1 h2 h3 kk => vx_catch (own := RX0) (name := exN 0) hown [] ⟨0, 14, 17, 13⟩ [⟨0, 14, 21, 15⟩] (htab.trans rfl) (fun z hz => by cases hz) rfl (by decide) (hts _ q737) (va_Nw.use rfl (hW.nw 41 rfl)) h1 h2 h3 kk) (fun H locs q8 hW => ?_)
      rw [← e10] at hW
      have hx0 : lext L0 σ0 L σ9 := by rw [e10]; exact hx0.trans lext_bX
      have hcs := hcs.more (σ1 := σ9) (a := 1) (b := 6) (by rw [e10]; rfl) (by rw [e10]; rfl)
      have hrm := hrm1
      refine lv_astore (lv' := [(6, .ref q8), (0, .ref (L 1 0)), (1, .int a2), (2, .int a3), (3, .int a4), (4, .int a5), (5, .ref (L 100 0))]) hx hb dX0_fence_17 hl (by decide) rfl (fun ls hl => ?_)
      refine lv_iconst (v := 1) hx hb dX0_fence_19 (by decide) ?_
      have hs := ww_S hs
      exact vx_ret (wa_i hx hb hr hlocks hx0 hcs hW (congrArg Prod.fst hs) (congrArg Prod.snd hs) dX0_fence_20)
    · have hs := ww_F hs hk7
      by_cases hk11 : k5 = 1
      · have hs := ww_T hs hk11
        rw [hk11] at hc1
        obtain ⟨σ13, e14, hs⟩ := ww_let hs
        obtain ⟨hs, hck⟩ := ww_ck2 hs
        have hrm1 := hcs.room (σ1 := σ13) (a := 1) (b := 6) (by rw [e14]; rfl) (by rw [e14]; rfl) hck
        refine ww_catN (hpc := 21) (vx_runV (As := [.int a2, .int a3, .int a4, .int a5]) (rest := [.int (0 : Int32), .ref (L 100 0)]) ⟨hx, hb, hml, hown, hts⟩ (c_X1_fence g hgm l L σ a2 a3 a4 a5 hst _ _ hc1) (cwV 4 hts (lw_V q916 q917 q918 q111 q919) rfl rfl rfl hd_X1_fence ⟨(Nat.le_of_ble_eq_true rfl), (Nat.le_of_ble_eq_true rfl)⟩) (ww_preV hW (pr_st (hW.rd hgm) (Nat.le_of_ble_eq_true rfl)) (obv_0 rfl) rfl) rfl rfl hl.1 rfl (lv_room (Nat.le_of_ble_eq_true rfl)) dX0_fence_9 hrm1) no_i hW (fun H1 locs1 q ce cells1 slots1 h1 h2 h3 kk => vx_catch (own := RX0) (name := exN 1) hown [⟨0, 14, 17, 13⟩] ⟨0, 14, 21, 15⟩ [] (htab.trans rfl) (fun z hz => by simp only [List.mem_cons, List.not_mem_nil, or_false] at hz; rcases hz with rfl <;> first | exact Or.inr ⟨by decide, _, hts _ q737, hW.1.2.2.2.2.2.2.2.2.2.2.2.2.2.2.2 1 0 (by decide) (by decide) (by decide)⟩) rfl (by decide) (hts _ q815) (va_Nw.use rfl (hW.nw 42 rfl)) h1 h2 h3 kk) (fun H locs q12 hW => ?_)
        rw [← e14] at hW
        have hx0 : lext L0 σ0 L σ13 := by rw [e14]; exact hx0.trans lext_bX
        have hcs := hcs.more (σ1 := σ13) (a := 1) (b := 6) (by rw [e14]; rfl) (by rw [e14]; rfl)
        have hrm := hrm1
        refine lv_astore (lv' := [(6, .ref q12), (0, .ref (L 1 0)), (1, .int a2), (2, .int a3), (3, .int a4), (4, .int a5), (5, .ref (L 100 0))]) hx hb dX0_fence_21 hl (by decide) rfl (fun ls hl => ?_)
        refine lv_iconst (v := 2) hx hb dX0_fence_23 (by decide) ?_
        have hs := ww_S hs
        exact vx_ret (wa_i hx hb hr hlocks hx0 hcs hW (congrArg Prod.fst hs) (congrArg Prod.snd hs) dX0_fence_24)
      · have hs := ww_F hs hk11
        cases hs
  · have hs := ww_sR hs
    refine ww_xi0 (vx_runV (As := [.int a2, .int a3, .int a4, .int a5]) (rest := [.int (0 : Int32), .ref (L 100 0)]) ⟨hx, hb, hml, hown, hts⟩ (c_X1_fence g hgm l L σ a2 a3 a4 a5 hst _ _ hc1) (cwV 4 hts (lw_V q916 q917 q918 q111 q919) rfl rfl rfl hd_X1_fence ⟨(Nat.le_of_ble_eq_true rfl), (Nat.le_of_ble_eq_true rfl)⟩) (ww_preV hW (pr_st (hW.rd hgm) (Nat.le_of_ble_eq_true rfl)) (obv_0 rfl) rfl) rfl rfl hl.1 rfl (lv_room (Nat.le_of_ble_eq_true rfl)) dX0_fence_9 hrm) hW (fun H locs hW => ?_)
    refine lv_i2l hx hb dX0_fence_12 rfl ?_
    obtain ⟨hc15, hs⟩ := ww_chk hs
    obtain ⟨σ16, e17, hs⟩ := ww_let hs
    refine ww_last hx hb hW hc15 (j := (0 : Int32)) rfl dX0_fence_13 (fun H locs hW => ?_)
    have hW : wv g L σ16 s H locs := by rw [e17]; exact hW
    obtain ⟨hx0, hcs⟩ := lx_s (σ1 := σ16) hx0 hcs (by rw [e17]; exact kp_O)
    refine lv_goto (tgt := 25) hx hb dX0_fence_14 (by decide) ?_
    refine lv_iconst (v := 0) hx hb dX0_fence_25 (by decide) ?_
    have hs := ww_S hs
    exact vx_ret (wa_i hx hb hr hlocks hx0 hcs hW (congrArg Prod.fst hs) (congrArg Prod.snd hs) dX0_fence_26)
set_option maxHeartbeats 4000000 in
theorem c_X0_fenced (g : wg_T) (hgm : gm g = true) (l : Launch) (L : ly_T) (σ : st_T) (a2 : Int32) (a3 : Int32) (hst : l.stackTraces = false) (r_ : Int32) (σ_ : st_T) (hs : m_X0_fenced σ a2 a3 = some (r_, σ_)) : AI g l yX0_fenced (wsW_ yX0_fenced cX0_fenced 5 (some .int) [(0, 10, 13, 13), (0, 10, 17, 15)]) 11 203 [.ref (L 1 0), .int a2, .int a3, .ref (L 100 0)] L σ r_ σ_ := by
  refine hbody.metN (by decide) (Nat.le_of_ble_eq_true rfl) ?_
  intro p e s m args below meth c ls hx hb hr hml hlocks hts hown hnm htab hW hl
  have hown : s.vm.findClass RX0 = some m.cls := hown
  obtain ⟨L0, hL0⟩ : ∃ L0, L0 = L := ⟨_, rfl⟩
  obtain ⟨σ0, hσ0⟩ : ∃ σ0, σ0 = σ := ⟨_, rfl⟩
  rw [← hσ0, ← hL0]
  have hx0 : lext L0 σ0 L σ := by rw [hL0, hσ0]; exact lext.refl
  have hcs : bk σ0 σ 0 0 := bk.start hσ0
  have hrm : 0 ≤ cu_ σ_ - cu_ σ0 ∧ 0 ≤ su_ σ_ - su_ σ0 := ⟨Nat.zero_le _, Nat.zero_le _⟩
  have hl : lv_has ls 5 [(0, .ref (L 1 0)), (1, .int a2), (2, .int a3), (3, .ref (L 100 0))] := hl
  unfold m_X0_fenced at hs
  refine lv_aload_n hx hb dX0_fenced_0 rfl (lv_at hl 3 rfl) ?_
  refine lv_iconst (v := 0) hx hb dX0_fenced_1 (by decide) ?_
  refine lv_aload_n hx hb dX0_fenced_2 rfl (lv_at hl 0 rfl) ?_
  refine lv_iload_n hx hb dX0_fenced_3 rfl (lv_at hl 1 rfl) ?_
  refine lv_iload_n hx hb dX0_fenced_4 rfl (lv_at hl 2 rfl) ?_
  obtain ⟨o3, hc1, hs⟩ := ww_bnd hs
  rcases o3 with k4 | v5
  · have hs := ww_sL hs
    by_cases hk6 : k4 = 0
    · have hs := ww_T hs hk6
      rw [hk6] at hc1
      obtain ⟨σ8, e9, hs⟩ := ww_let hs
      obtain ⟨hs, hck⟩ := ww_ck2 hs
      have hrm1 := hcs.room (σ1 := σ8) (a := 1) (b := 6) (by rw [e9]; rfl) (by rw [e9]; rfl) hck
      refine ww_catN (hpc := 13) (vx_runV (As := [.int a2, .int a3]) (rest := [.int (0 : Int32), .ref (L 100 0)]) ⟨hx, hb, hml, hown, hts⟩ (c_X1_fenced g hgm l L σ a2 a3 hst _ hc1) (cwV 2 hts (lw_V q935 q936 q937 q111 q938) rfl rfl rfl hd_X1_fenced ⟨(Nat.le_of_ble_eq_true rfl), (Nat.le_of_ble_eq_true rfl)⟩) (ww_preV hW (pr_st (hW.rd hgm) (Nat.le_of_ble_eq_true rfl)) (obv_0 rfl) rfl) rfl rfl hl.1 rfl (lv_room (Nat.le_of_ble_eq_true rfl)) dX0_fenced_5 hrm1) no_i hW (fun H1 locs1 q ce cells1 slots1 h1 h2 h3 kk => vx_catch (own := RX0) (name := exN 0) hown [] ⟨0, 10, 13, 13⟩ [⟨0, 10, 17, 15⟩] (htab.trans rfl) (fun z hz => by cases hz) rfl (by decide) (hts _ q737) (va_Nw.use rfl (hW.nw 41 rfl)) h1 h2 h3 kk) (fun H locs q7 hW => ?_)
      rw [← e9] at hW
      have hx0 : lext L0 σ0 L σ8 := by rw [e9]; exact hx0.trans lext_bX
      have hcs := hcs.more (σ1 := σ8) (a := 1) (b := 6) (by rw [e9]; rfl) (by rw [e9]; rfl)
      have hrm := hrm1
      refine lv_astore (lv' := [(4, .ref q7), (0, .ref (L 1 0)), (1, .int a2), (2, .int a3), (3, .ref (L 100 0))]) hx hb dX0_fenced_13 hl (by decide) rfl (fun ls hl => ?_)
      refine lv_iconst (v := 1) hx hb dX0_fenced_15 (by decide) ?_
      have hs := ww_S hs
      exact vx_ret (wa_i hx hb hr hlocks hx0 hcs hW (congrArg Prod.fst hs) (congrArg Prod.snd hs) dX0_fenced_16)
    · have hs := ww_F hs hk6
      by_cases hk10 : k4 = 1
      · have hs := ww_T hs hk10
        rw [hk10] at hc1
        obtain ⟨σ12, e13, hs⟩ := ww_let hs
        obtain ⟨hs, hck⟩ := ww_ck2 hs
        have hrm1 := hcs.room (σ1 := σ12) (a := 1) (b := 6) (by rw [e13]; rfl) (by rw [e13]; rfl) hck
        refine ww_catN (hpc := 17) (vx_runV (As := [.int a2, .int a3]) (rest := [.int (0 : Int32), .ref (L 100 0)]) ⟨hx, hb, hml, hown, hts⟩ (c_X1_fenced g hgm l L σ a2 a3 hst _ hc1) (cwV 2 hts (lw_V q935 q936 q937 q111 q938) rfl rfl rfl hd_X1_fenced ⟨(Nat.le_of_ble_eq_true rfl), (Nat.le_of_ble_eq_true rfl)⟩) (ww_preV hW (pr_st (hW.rd hgm) (Nat.le_of_ble_eq_true rfl)) (obv_0 rfl) rfl) rfl rfl hl.1 rfl (lv_room (Nat.le_of_ble_eq_true rfl)) dX0_fenced_5 hrm1) no_i hW (fun H1 locs1 q ce cells1 slots1 h1 h2 h3 kk => vx_catch (own := RX0) (name := exN 1) hown [⟨0, 10, 13, 13⟩] ⟨0, 10, 17, 15⟩ [] (htab.trans rfl) (fun z hz => by simp only [List.mem_cons, List.not_mem_nil, or_false] at hz; rcases hz with rfl <;> first | exact Or.inr ⟨by decide, _, hts _ q737, hW.1.2.2.2.2.2.2.2.2.2.2.2.2.2.2.2 1 0 (by decide) (by decide) (by decide)⟩) rfl (by decide) (hts _ q815) (va_Nw.use rfl (hW.nw 42 rfl)) h1 h2 h3 kk) (fun H locs q11 hW => ?_)
        rw [← e13] at hW
        have hx0 : lext L0 σ0 L σ12 := by rw [e13]; exact hx0.trans lext_bX
        have hcs := hcs.more (σ1 := σ12) (a := 1) (b := 6) (by rw [e13]; rfl) (by rw [e13]; rfl)
        have hrm := hrm1
        refine lv_astore (lv' := [(4, .ref q11), (0, .ref (L 1 0)), (1, .int a2), (2, .int a3), (3, .ref (L 100 0))]) hx hb dX0_fenced_17 hl (by decide) rfl (fun ls hl => ?_)
        refine lv_iconst (v := 2) hx hb dX0_fenced_19 (by decide) ?_
        have hs := ww_S hs
        exact vx_ret (wa_i hx hb hr hlocks hx0 hcs hW (congrArg Prod.fst hs) (congrArg Prod.snd hs) dX0_fenced_20)
      · have hs := ww_F hs hk10
        cases hs
  · have hs := ww_sR hs
    refine ww_xi0 (vx_runV (As := [.int a2, .int a3]) (rest := [.int (0 : Int32), .ref (L 100 0)]) ⟨hx, hb, hml, hown, hts⟩ (c_X1_fenced g hgm l L σ a2 a3 hst _ hc1) (cwV 2 hts (lw_V q935 q936 q937 q111 q938) rfl rfl rfl hd_X1_fenced ⟨(Nat.le_of_ble_eq_true rfl), (Nat.le_of_ble_eq_true rfl)⟩) (ww_preV hW (pr_st (hW.rd hgm) (Nat.le_of_ble_eq_true rfl)) (obv_0 rfl) rfl) rfl rfl hl.1 rfl (lv_room (Nat.le_of_ble_eq_true rfl)) dX0_fenced_5 hrm) hW (fun H locs hW => ?_)
    refine lv_i2l hx hb dX0_fenced_8 rfl ?_
    obtain ⟨hc14, hs⟩ := ww_chk hs
    obtain ⟨σ15, e16, hs⟩ := ww_let hs
    refine ww_last hx hb hW hc14 (j := (0 : Int32)) rfl dX0_fenced_9 (fun H locs hW => ?_)
    have hW : wv g L σ15 s H locs := by rw [e16]; exact hW
    obtain ⟨hx0, hcs⟩ := lx_s (σ1 := σ15) hx0 hcs (by rw [e16]; exact kp_O)
    refine lv_goto (tgt := 21) hx hb dX0_fenced_10 (by decide) ?_
    refine lv_iconst (v := 0) hx hb dX0_fenced_21 (by decide) ?_
    have hs := ww_S hs
    exact vx_ret (wa_i hx hb hr hlocks hx0 hcs hW (congrArg Prod.fst hs) (congrArg Prod.snd hs) dX0_fenced_22)
set_option maxHeartbeats 4000000 in
theorem c_X0_fear (g : wg_T) (hgm : gm g = true) (l : Launch) (L : ly_T) (σ : st_T) (a2 : Int32) (hst : l.stackTraces = false) (r_ : Int32) (σ_ : st_T) (hs : m_X0_fear σ a2 = some (r_, σ_)) : AI g l yX0_fear (wsW_ yX0_fear cX0_fear 4 (some .int) [(0, 9, 12, 13)]) 10 181 [.ref (L 1 0), .int a2, .ref (L 100 0)] L σ r_ σ_ := by
  refine hbody.metN (by decide) (Nat.le_of_ble_eq_true rfl) ?_
  intro p e s m args below meth c ls hx hb hr hml hlocks hts hown hnm htab hW hl
  have hown : s.vm.findClass RX0 = some m.cls := hown
  obtain ⟨L0, hL0⟩ : ∃ L0, L0 = L := ⟨_, rfl⟩
  obtain ⟨σ0, hσ0⟩ : ∃ σ0, σ0 = σ := ⟨_, rfl⟩
  rw [← hσ0, ← hL0]
  have hx0 : lext L0 σ0 L σ := by rw [hL0, hσ0]; exact lext.refl
  have hcs : bk σ0 σ 0 0 := bk.start hσ0
  have hrm : 0 ≤ cu_ σ_ - cu_ σ0 ∧ 0 ≤ su_ σ_ - su_ σ0 := ⟨Nat.zero_le _, Nat.zero_le _⟩
  have hl : lv_has ls 4 [(0, .ref (L 1 0)), (1, .int a2), (2, .ref (L 100 0))] := hl
  unfold m_X0_fear at hs
  refine lv_aload_n hx hb dX0_fear_0 rfl (lv_at hl 2 rfl) ?_
  refine lv_iconst (v := 0) hx hb dX0_fear_1 (by decide) ?_
  refine lv_aload_n hx hb dX0_fear_2 rfl (lv_at hl 0 rfl) ?_
  refine lv_iload_n hx hb dX0_fear_3 rfl (lv_at hl 1 rfl) ?_
  obtain ⟨o3, hc1, hs⟩ := ww_bnd hs
  rcases o3 with k4 | v5
  · have hs := ww_sL hs
    by_cases hk6 : k4 = 0
    · have hs := ww_T hs hk6
      rw [hk6] at hc1
      obtain ⟨σ8, e9, hs⟩ := ww_let hs
      obtain ⟨hs, hck⟩ := ww_ck2 hs
      have hrm1 := hcs.room (σ1 := σ8) (a := 1) (b := 6) (by rw [e9]; rfl) (by rw [e9]; rfl) hck
      refine ww_catN (hpc := 12) (vx_runV (As := [.int a2]) (rest := [.int (0 : Int32), .ref (L 100 0)]) ⟨hx, hb, hml, hown, hts⟩ (c_X1_fear g hgm l L σ a2 hst _ hc1) (cwV 1 hts (lw_V q942 q943 q944 q111 q945) rfl rfl rfl hd_X1_fear ⟨(Nat.le_of_ble_eq_true rfl), (Nat.le_of_ble_eq_true rfl)⟩) (ww_preV hW (pr_st (hW.rd hgm) (Nat.le_of_ble_eq_true rfl)) (obv_0 rfl) rfl) rfl rfl hl.1 rfl (lv_room (Nat.le_of_ble_eq_true rfl)) dX0_fear_4 hrm1) no_i hW (fun H1 locs1 q ce cells1 slots1 h1 h2 h3 kk => vx_catch (own := RX0) (name := exN 0) hown [] ⟨0, 9, 12, 13⟩ [] (htab.trans rfl) (fun z hz => by cases hz) rfl (by decide) (hts _ q737) (va_Nw.use rfl (hW.nw 41 rfl)) h1 h2 h3 kk) (fun H locs q7 hW => ?_)
      rw [← e9] at hW
      have hx0 : lext L0 σ0 L σ8 := by rw [e9]; exact hx0.trans lext_bX
      have hcs := hcs.more (σ1 := σ8) (a := 1) (b := 6) (by rw [e9]; rfl) (by rw [e9]; rfl)
      have hrm := hrm1
      refine lv_astore_n (lv' := [(3, .ref q7), (0, .ref (L 1 0)), (1, .int a2), (2, .ref (L 100 0))]) hx hb dX0_fear_12 rfl hl (by decide) rfl (fun ls hl => ?_)
      refine lv_iconst (v := 1) hx hb dX0_fear_13 (by decide) ?_
      have hs := ww_S hs
      exact vx_ret (wa_i hx hb hr hlocks hx0 hcs hW (congrArg Prod.fst hs) (congrArg Prod.snd hs) dX0_fear_14)
    · have hs := ww_F hs hk6
      cases hs
  · have hs := ww_sR hs
    refine ww_xi0 (vx_runV (As := [.int a2]) (rest := [.int (0 : Int32), .ref (L 100 0)]) ⟨hx, hb, hml, hown, hts⟩ (c_X1_fear g hgm l L σ a2 hst _ hc1) (cwV 1 hts (lw_V q942 q943 q944 q111 q945) rfl rfl rfl hd_X1_fear ⟨(Nat.le_of_ble_eq_true rfl), (Nat.le_of_ble_eq_true rfl)⟩) (ww_preV hW (pr_st (hW.rd hgm) (Nat.le_of_ble_eq_true rfl)) (obv_0 rfl) rfl) rfl rfl hl.1 rfl (lv_room (Nat.le_of_ble_eq_true rfl)) dX0_fear_4 hrm) hW (fun H locs hW => ?_)
    refine lv_i2l hx hb dX0_fear_7 rfl ?_
    obtain ⟨hc10, hs⟩ := ww_chk hs
    obtain ⟨σ11, e12, hs⟩ := ww_let hs
    refine ww_last hx hb hW hc10 (j := (0 : Int32)) rfl dX0_fear_8 (fun H locs hW => ?_)
    have hW : wv g L σ11 s H locs := by rw [e12]; exact hW
    obtain ⟨hx0, hcs⟩ := lx_s (σ1 := σ11) hx0 hcs (by rw [e12]; exact kp_O)
    refine lv_goto (tgt := 15) hx hb dX0_fear_9 (by decide) ?_
    refine lv_iconst (v := 0) hx hb dX0_fear_15 (by decide) ?_
    have hs := ww_S hs
    exact vx_ret (wa_i hx hb hr hlocks hx0 hcs hW (congrArg Prod.fst hs) (congrArg Prod.snd hs) dX0_fear_16)
set_option maxHeartbeats 4000000 in
theorem c_X0_rule (g : wg_T) (hgm : gm g = true) (l : Launch) (L : ly_T) (σ : st_T) (a2 : Int32) (hst : l.stackTraces = false) (r_ : Int32) (σ_ : st_T) (hs : m_X0_rule σ a2 = some (r_, σ_)) : AI g l yX0_rule (wsW_ yX0_rule cX0_rule 4 (some .int) [(0, 9, 12, 15)]) 168 4293 [.ref (L 1 0), .int a2, .ref (L 100 0)] L σ r_ σ_ := by
  refine hbody.metN (by decide) (Nat.le_of_ble_eq_true rfl) ?_
  intro p e s m args below meth c ls hx hb hr hml hlocks hts hown hnm htab hW hl
  have hown : s.vm.findClass RX0 = some m.cls := hown
  obtain ⟨L0, hL0⟩ : ∃ L0, L0 = L := ⟨_, rfl⟩
  obtain ⟨σ0, hσ0⟩ : ∃ σ0, σ0 = σ := ⟨_, rfl⟩
  rw [← hσ0, ← hL0]
  have hx0 : lext L0 σ0 L σ := by rw [hL0, hσ0]; exact lext.refl
  have hcs : bk σ0 σ 0 0 := bk.start hσ0
  have hrm : 0 ≤ cu_ σ_ - cu_ σ0 ∧ 0 ≤ su_ σ_ - su_ σ0 := ⟨Nat.zero_le _, Nat.zero_le _⟩
  have hl : lv_has ls 4 [(0, .ref (L 1 0)), (1, .int a2), (2, .ref (L 100 0))] := hl
  unfold m_X0_rule at hs
  refine lv_aload_n hx hb dX0_rule_0 rfl (lv_at hl 2 rfl) ?_
  refine lv_iconst (v := 0) hx hb dX0_rule_1 (by decide) ?_
  refine lv_aload_n hx hb dX0_rule_2 rfl (lv_at hl 0 rfl) ?_
  refine lv_iload_n hx hb dX0_rule_3 rfl (lv_at hl 1 rfl) ?_
  obtain ⟨o3, σ4, hc1, hs⟩ := ww_bn2 hs
  have hl : lv_has ls 4 [] := lv_sub hl [] rfl
  obtain ⟨hc7, hs⟩ := ww_chk hs
  have hp8 : pr σ 100 0 := (pr_dy hc7 rfl rfl)
  obtain ⟨hc9, hs⟩ := ww_chk hs
  obtain ⟨hs, hck⟩ := ww_ck2 hs
  have hrm1 := hcs.roomC hc9 hck
  rcases o3 with k5 | v6
  · have hs := ww_sL hs
    by_cases hk10 : k5 = 1
    · have hs := ww_T hs hk10
      rw [hk10] at hc1
      refine ww_catA (hpc := 12) (vx_runVX (As := [.int a2]) (rest := [.int (0 : Int32), .ref (L 100 0)]) ⟨hx, hb, hml, hown, hts⟩ (c_X1_rule g hgm l L σ a2 hst _ _ hc1) (vx_cwVW 1 hts (lw_VW q949 q950 q951 q111 q952) rfl rfl rfl hd_X1_rule ⟨(Nat.le_of_ble_eq_true rfl), (Nat.le_of_ble_eq_true rfl)⟩) (ww_preV hW (pr_st (hW.rd hgm) (Nat.le_of_ble_eq_true rfl)) (obv_0 rfl) rfl) rfl rfl hl.1 rfl (lv_room (Nat.le_of_ble_eq_true rfl)) dX0_rule_4 hrm1) noA_i hW (fun H1 locs1 q ce cells1 slots1 h1 h2 h3 kk => vx_catch (own := RX0) (name := exN 1) hown [] ⟨0, 9, 12, 15⟩ [] (htab.trans rfl) (fun z hz => by cases hz) rfl (by decide) (hts _ q815) (va_Nw.use rfl (hW.nw 42 rfl)) h1 h2 h3 kk) (fun H locs L q11 hx1 hW => ?_)
      have hc12 : 0 < gN_ σ4 100 := Nat.lt_of_lt_of_le hc7 (hx1.2.1 100)
      have hcs := hcs.call hc9
      have hrm := hrm1
      have hx0 := hx0.trans hx1
      refine lv_astore_n (lv' := [(3, .ref q11)]) hx hb dX0_rule_12 rfl hl (by decide) rfl (fun ls hl => ?_)
      refine lv_iconst (v := 1) hx hb dX0_rule_13 (by decide) ?_
      have hs := ww_S hs
      exact vx_ret (wa_i hx hb hr hlocks hx0 hcs hW (congrArg Prod.fst hs) (congrArg Prod.snd hs) dX0_rule_14)
    · have hs := ww_F hs hk10
      cases hs
  · have hs := ww_sR hs
    refine wz_ci (vx_runVX (As := [.int a2]) (rest := [.int (0 : Int32), .ref (L 100 0)]) ⟨hx, hb, hml, hown, hts⟩ (c_X1_rule g hgm l L σ a2 hst _ _ hc1) (vx_cwVW 1 hts (lw_VW q949 q950 q951 q111 q952) rfl rfl rfl hd_X1_rule ⟨(Nat.le_of_ble_eq_true rfl), (Nat.le_of_ble_eq_true rfl)⟩) (ww_preV hW (pr_st (hW.rd hgm) (Nat.le_of_ble_eq_true rfl)) (obv_0 rfl) rfl) rfl rfl hl.1 rfl (lv_room (Nat.le_of_ble_eq_true rfl)) dX0_rule_4 hrm1) hW (fun H locs L hx1 hW => ?_)
    have hc13 : 0 < gN_ σ4 100 := Nat.lt_of_lt_of_le hc7 (hx1.2.1 100)
    have hcs := hcs.call hc9
    have hrm := hrm1
    refine ww_stk (st1 := [.int v6, .int (0 : Int32), .ref (L 100 0)]) (by rw [hx1.at hp8 (by decide)]) ?_
    have hx0 := hx0.trans hx1
    refine lv_i2l hx hb dX0_rule_7 rfl ?_
    obtain ⟨hc14, hs⟩ := ww_chk hs
    obtain ⟨σ15, e16, hs⟩ := ww_let hs
    refine ww_last hx hb hW hc14 (j := (0 : Int32)) rfl dX0_rule_8 (fun H locs hW => ?_)
    have hW : wv g L σ15 s H locs := by rw [e16]; exact hW
    obtain ⟨hx0, hcs⟩ := lx_s (σ1 := σ15) hx0 hcs (by rw [e16]; exact kp_O)
    have hc17 : 0 < gN_ σ15 100 := by rw [e16]; exact hc13
    refine lv_goto (tgt := 15) hx hb dX0_rule_9 (by decide) ?_
    refine lv_iconst (v := 0) hx hb dX0_rule_15 (by decide) ?_
    have hs := ww_S hs
    exact vx_ret (wa_i hx hb hr hlocks hx0 hcs hW (congrArg Prod.fst hs) (congrArg Prod.snd hs) dX0_rule_16)
set_option maxHeartbeats 4000000 in
theorem c_X0_like (g : wg_T) (hgm : gm g = true) (l : Launch) (L : ly_T) (σ : st_T) (a2 : Int32) (a3 : Int32) (hst : l.stackTraces = false) (r_ : Int32) (σ_ : st_T) (hs : m_X0_like σ a2 a3 = some (r_, σ_)) : AI g l yX0_like (wsW_ yX0_like cX0_like 5 (some .int) [(0, 10, 13, 15)]) 10 182 [.ref (L 1 0), .int a2, .int a3, .ref (L 100 0)] L σ r_ σ_ := by
  refine hbody.metN (by decide) (Nat.le_of_ble_eq_true rfl) ?_
  intro p e s m args below meth c ls hx hb hr hml hlocks hts hown hnm htab hW hl
  have hown : s.vm.findClass RX0 = some m.cls := hown
  obtain ⟨L0, hL0⟩ : ∃ L0, L0 = L := ⟨_, rfl⟩
  obtain ⟨σ0, hσ0⟩ : ∃ σ0, σ0 = σ := ⟨_, rfl⟩
  rw [← hσ0, ← hL0]
  have hx0 : lext L0 σ0 L σ := by rw [hL0, hσ0]; exact lext.refl
  have hcs : bk σ0 σ 0 0 := bk.start hσ0
  have hrm : 0 ≤ cu_ σ_ - cu_ σ0 ∧ 0 ≤ su_ σ_ - su_ σ0 := ⟨Nat.zero_le _, Nat.zero_le _⟩
  have hl : lv_has ls 5 [(0, .ref (L 1 0)), (1, .int a2), (2, .int a3), (3, .ref (L 100 0))] := hl
  unfold m_X0_like at hs
  refine lv_aload_n hx hb dX0_like_0 rfl (lv_at hl 3 rfl) ?_
  refine lv_iconst (v := 0) hx hb dX0_like_1 (by decide) ?_
  refine lv_aload_n hx hb dX0_like_2 rfl (lv_at hl 0 rfl) ?_
  refine lv_iload_n hx hb dX0_like_3 rfl (lv_at hl 1 rfl) ?_
  refine lv_iload_n hx hb dX0_like_4 rfl (lv_at hl 2 rfl) ?_
  obtain ⟨o3, hc1, hs⟩ := ww_bnd hs
  rcases o3 with k4 | v5
  · have hs := ww_sL hs
    by_cases hk6 : k4 = 1
    · have hs := ww_T hs hk6
      rw [hk6] at hc1
      obtain ⟨σ8, e9, hs⟩ := ww_let hs
      obtain ⟨hs, hck⟩ := ww_ck2 hs
      have hrm1 := hcs.room (σ1 := σ8) (a := 1) (b := 6) (by rw [e9]; rfl) (by rw [e9]; rfl) hck
      refine ww_catN (hpc := 13) (vx_runV (As := [.int a2, .int a3]) (rest := [.int (0 : Int32), .ref (L 100 0)]) ⟨hx, hb, hml, hown, hts⟩ (c_X1_like g hgm l L σ a2 a3 hst _ hc1) (cwV 2 hts (lw_V q1143 q1144 q1145 q111 q1146) rfl rfl rfl hd_X1_like ⟨(Nat.le_of_ble_eq_true rfl), (Nat.le_of_ble_eq_true rfl)⟩) (ww_preV hW (pr_st (hW.rd hgm) (Nat.le_of_ble_eq_true rfl)) (obv_0 rfl) rfl) rfl rfl hl.1 rfl (lv_room (Nat.le_of_ble_eq_true rfl)) dX0_like_5 hrm1) no_i hW (fun H1 locs1 q ce cells1 slots1 h1 h2 h3 kk => vx_catch (own := RX0) (name := exN 1) hown [] ⟨0, 10, 13, 15⟩ [] (htab.trans rfl) (fun z hz => by cases hz) rfl (by decide) (hts _ q815) (va_Nw.use rfl (hW.nw 42 rfl)) h1 h2 h3 kk) (fun H locs q7 hW => ?_)
      rw [← e9] at hW
      have hx0 : lext L0 σ0 L σ8 := by rw [e9]; exact hx0.trans lext_bX
      have hcs := hcs.more (σ1 := σ8) (a := 1) (b := 6) (by rw [e9]; rfl) (by rw [e9]; rfl)
      have hrm := hrm1
      refine lv_astore (lv' := [(4, .ref q7), (0, .ref (L 1 0)), (1, .int a2), (2, .int a3), (3, .ref (L 100 0))]) hx hb dX0_like_13 hl (by decide) rfl (fun ls hl => ?_)
      refine lv_iconst (v := 1) hx hb dX0_like_15 (by decide) ?_
      have hs := ww_S hs
      exact vx_ret (wa_i hx hb hr hlocks hx0 hcs hW (congrArg Prod.fst hs) (congrArg Prod.snd hs) dX0_like_16)
    · have hs := ww_F hs hk6
      cases hs
  · have hs := ww_sR hs
    refine ww_xi0 (vx_runV (As := [.int a2, .int a3]) (rest := [.int (0 : Int32), .ref (L 100 0)]) ⟨hx, hb, hml, hown, hts⟩ (c_X1_like g hgm l L σ a2 a3 hst _ hc1) (cwV 2 hts (lw_V q1143 q1144 q1145 q111 q1146) rfl rfl rfl hd_X1_like ⟨(Nat.le_of_ble_eq_true rfl), (Nat.le_of_ble_eq_true rfl)⟩) (ww_preV hW (pr_st (hW.rd hgm) (Nat.le_of_ble_eq_true rfl)) (obv_0 rfl) rfl) rfl rfl hl.1 rfl (lv_room (Nat.le_of_ble_eq_true rfl)) dX0_like_5 hrm) hW (fun H locs hW => ?_)
    refine lv_i2l hx hb dX0_like_8 rfl ?_
    obtain ⟨hc10, hs⟩ := ww_chk hs
    obtain ⟨σ11, e12, hs⟩ := ww_let hs
    refine ww_last hx hb hW hc10 (j := (0 : Int32)) rfl dX0_like_9 (fun H locs hW => ?_)
    have hW : wv g L σ11 s H locs := by rw [e12]; exact hW
    obtain ⟨hx0, hcs⟩ := lx_s (σ1 := σ11) hx0 hcs (by rw [e12]; exact kp_O)
    refine lv_goto (tgt := 17) hx hb dX0_like_10 (by decide) ?_
    refine lv_iconst (v := 0) hx hb dX0_like_17 (by decide) ?_
    have hs := ww_S hs
    exact vx_ret (wa_i hx hb hr hlocks hx0 hcs hW (congrArg Prod.fst hs) (congrArg Prod.snd hs) dX0_like_18)
set_option maxHeartbeats 4000000 in
theorem c_X0_herd (g : wg_T) (hgm : gm g = true) (l : Launch) (L : ly_T) (σ : st_T) (a2 : Int32) (a3 : Int32) (a4 : Int32) (hst : l.stackTraces = false) (r_ : Int32) (σ_ : st_T) (hs : m_X0_herd σ a2 a3 a4 = some (r_, σ_)) : AI g l yX0_herd (wsW_ yX0_herd cX0_herd 6 (some .int) [(0, 12, 15, 13), (0, 12, 19, 15)]) 17 523 [.ref (L 1 0), .int a2, .int a3, .int a4, .ref (L 100 0)] L σ r_ σ_ := by
  refine hbody.metN (by decide) (Nat.le_of_ble_eq_true rfl) ?_
  intro p e s m args below meth c ls hx hb hr hml hlocks hts hown hnm htab hW hl
  have hown : s.vm.findClass RX0 = some m.cls := hown
  obtain ⟨L0, hL0⟩ : ∃ L0, L0 = L := ⟨_, rfl⟩
  obtain ⟨σ0, hσ0⟩ : ∃ σ0, σ0 = σ := ⟨_, rfl⟩
  rw [← hσ0, ← hL0]
  have hx0 : lext L0 σ0 L σ := by rw [hL0, hσ0]; exact lext.refl
  have hcs : bk σ0 σ 0 0 := bk.start hσ0
  have hrm : 0 ≤ cu_ σ_ - cu_ σ0 ∧ 0 ≤ su_ σ_ - su_ σ0 := ⟨Nat.zero_le _, Nat.zero_le _⟩
  have hl : lv_has ls 6 [(0, .ref (L 1 0)), (1, .int a2), (2, .int a3), (3, .int a4), (4, .ref (L 100 0))] := hl
  unfold m_X0_herd at hs
  refine lv_aload hx hb dX0_herd_0 (lv_at hl 4 rfl) ?_
  refine lv_iconst (v := 0) hx hb dX0_herd_2 (by decide) ?_
  refine lv_aload_n hx hb dX0_herd_3 rfl (lv_at hl 0 rfl) ?_
  refine lv_iload_n hx hb dX0_herd_4 rfl (lv_at hl 1 rfl) ?_
  refine lv_iload_n hx hb dX0_herd_5 rfl (lv_at hl 2 rfl) ?_
  refine lv_iload_n hx hb dX0_herd_6 rfl (lv_at hl 3 rfl) ?_
  obtain ⟨o3, σ4, hc1, hs⟩ := ww_bn2 hs
  have hl : lv_has ls 6 [] := lv_sub hl [] rfl
  obtain ⟨hc7, hs⟩ := ww_chk hs
  have hp8 : pr σ 100 0 := (pr_dy hc7 rfl rfl)
  obtain ⟨hc9, hs⟩ := ww_chk hs
  obtain ⟨hs, hck⟩ := ww_ck2 hs
  have hrm1 := hcs.roomC hc9 hck
  rcases o3 with k5 | v6
  · have hs := ww_sL hs
    by_cases hk10 : k5 = 0
    · have hs := ww_T hs hk10
      rw [hk10] at hc1
      refine ww_catA (hpc := 15) (vx_runV (As := [.int a2, .int a3, .int a4]) (rest := [.int (0 : Int32), .ref (L 100 0)]) ⟨hx, hb, hml, hown, hts⟩ (c_X1_herd g hgm l L σ a2 a3 a4 hst _ _ hc1) (cwV 3 hts (lw_V q1150 q1151 q1152 q111 q1153) rfl rfl rfl hd_X1_herd ⟨(Nat.le_of_ble_eq_true rfl), (Nat.le_of_ble_eq_true rfl)⟩) (ww_preV hW (pr_st (hW.rd hgm) (Nat.le_of_ble_eq_true rfl)) (obv_0 rfl) rfl) rfl rfl hl.1 rfl (lv_room (Nat.le_of_ble_eq_true rfl)) dX0_herd_7 hrm1) noA_i hW (fun H1 locs1 q ce cells1 slots1 h1 h2 h3 kk => vx_catch (own := RX0) (name := exN 0) hown [] ⟨0, 12, 15, 13⟩ [⟨0, 12, 19, 15⟩] (htab.trans rfl) (fun z hz => by cases hz) rfl (by decide) (hts _ q737) (va_Nw.use rfl (hW.nw 41 rfl)) h1 h2 h3 kk) (fun H locs L q11 hx1 hW => ?_)
      have hc12 : 0 < gN_ σ4 100 := Nat.lt_of_lt_of_le hc7 (hx1.2.1 100)
      have hcs := hcs.call hc9
      have hrm := hrm1
      have hx0 := hx0.trans hx1
      refine lv_astore (lv' := [(5, .ref q11)]) hx hb dX0_herd_15 hl (by decide) rfl (fun ls hl => ?_)
      refine lv_iconst (v := 1) hx hb dX0_herd_17 (by decide) ?_
      have hs := ww_S hs
      exact vx_ret (wa_i hx hb hr hlocks hx0 hcs hW (congrArg Prod.fst hs) (congrArg Prod.snd hs) dX0_herd_18)
    · have hs := ww_F hs hk10
      by_cases hk13 : k5 = 1
      · have hs := ww_T hs hk13
        rw [hk13] at hc1
        refine ww_catA (hpc := 19) (vx_runV (As := [.int a2, .int a3, .int a4]) (rest := [.int (0 : Int32), .ref (L 100 0)]) ⟨hx, hb, hml, hown, hts⟩ (c_X1_herd g hgm l L σ a2 a3 a4 hst _ _ hc1) (cwV 3 hts (lw_V q1150 q1151 q1152 q111 q1153) rfl rfl rfl hd_X1_herd ⟨(Nat.le_of_ble_eq_true rfl), (Nat.le_of_ble_eq_true rfl)⟩) (ww_preV hW (pr_st (hW.rd hgm) (Nat.le_of_ble_eq_true rfl)) (obv_0 rfl) rfl) rfl rfl hl.1 rfl (lv_room (Nat.le_of_ble_eq_true rfl)) dX0_herd_7 hrm1) noA_i hW (fun H1 locs1 q ce cells1 slots1 h1 h2 h3 kk => vx_catch (own := RX0) (name := exN 1) hown [⟨0, 12, 15, 13⟩] ⟨0, 12, 19, 15⟩ [] (htab.trans rfl) (fun z hz => by simp only [List.mem_cons, List.not_mem_nil, or_false] at hz; rcases hz with rfl <;> first | exact Or.inr ⟨by decide, _, hts _ q737, hW.1.2.2.2.2.2.2.2.2.2.2.2.2.2.2.2 1 0 (by decide) (by decide) (by decide)⟩) rfl (by decide) (hts _ q815) (va_Nw.use rfl (hW.nw 42 rfl)) h1 h2 h3 kk) (fun H locs L q14 hx1 hW => ?_)
        have hc15 : 0 < gN_ σ4 100 := Nat.lt_of_lt_of_le hc7 (hx1.2.1 100)
        have hcs := hcs.call hc9
        have hrm := hrm1
        have hx0 := hx0.trans hx1
        refine lv_astore (lv' := [(5, .ref q14)]) hx hb dX0_herd_19 hl (by decide) rfl (fun ls hl => ?_)
        refine lv_iconst (v := 2) hx hb dX0_herd_21 (by decide) ?_
        have hs := ww_S hs
        exact vx_ret (wa_i hx hb hr hlocks hx0 hcs hW (congrArg Prod.fst hs) (congrArg Prod.snd hs) dX0_herd_22)
      · have hs := ww_F hs hk13
        cases hs
  · have hs := ww_sR hs
    refine wz_ci (vx_runV (As := [.int a2, .int a3, .int a4]) (rest := [.int (0 : Int32), .ref (L 100 0)]) ⟨hx, hb, hml, hown, hts⟩ (c_X1_herd g hgm l L σ a2 a3 a4 hst _ _ hc1) (cwV 3 hts (lw_V q1150 q1151 q1152 q111 q1153) rfl rfl rfl hd_X1_herd ⟨(Nat.le_of_ble_eq_true rfl), (Nat.le_of_ble_eq_true rfl)⟩) (ww_preV hW (pr_st (hW.rd hgm) (Nat.le_of_ble_eq_true rfl)) (obv_0 rfl) rfl) rfl rfl hl.1 rfl (lv_room (Nat.le_of_ble_eq_true rfl)) dX0_herd_7 hrm1) hW (fun H locs L hx1 hW => ?_)
    have hc16 : 0 < gN_ σ4 100 := Nat.lt_of_lt_of_le hc7 (hx1.2.1 100)
    have hcs := hcs.call hc9
    have hrm := hrm1
    refine ww_stk (st1 := [.int v6, .int (0 : Int32), .ref (L 100 0)]) (by rw [hx1.at hp8 (by decide)]) ?_
    have hx0 := hx0.trans hx1
    refine lv_i2l hx hb dX0_herd_10 rfl ?_
    obtain ⟨hc17, hs⟩ := ww_chk hs
    obtain ⟨σ18, e19, hs⟩ := ww_let hs
    refine ww_last hx hb hW hc17 (j := (0 : Int32)) rfl dX0_herd_11 (fun H locs hW => ?_)
    have hW : wv g L σ18 s H locs := by rw [e19]; exact hW
    obtain ⟨hx0, hcs⟩ := lx_s (σ1 := σ18) hx0 hcs (by rw [e19]; exact kp_O)
    have hc20 : 0 < gN_ σ18 100 := by rw [e19]; exact hc16
    refine lv_goto (tgt := 23) hx hb dX0_herd_12 (by decide) ?_
    refine lv_iconst (v := 0) hx hb dX0_herd_23 (by decide) ?_
    have hs := ww_S hs
    exact vx_ret (wa_i hx hb hr hlocks hx0 hcs hW (congrArg Prod.fst hs) (congrArg Prod.snd hs) dX0_herd_24)
set_option maxHeartbeats 4000000 in
theorem c_X0_cost (g : wg_T) (hgm : gm g = true) (l : Launch) (L : ly_T) (σ : st_T) (a2 : Int32) (a3 : Int32) (hst : l.stackTraces = false) (r_ : Int32) (σ_ : st_T) (hs : m_X0_cost σ a2 a3 = some (r_, σ_)) : AI g l yX0_cost (wsW_ yX0_cost cX0_cost 5 (some .int) [(0, 10, 13, 52), (0, 10, 17, 13)]) 10 194 [.ref (L 1 0), .int a2, .int a3, .ref (L 100 0)] L σ r_ σ_ := by
  refine hbody.metN (by decide) (Nat.le_of_ble_eq_true rfl) ?_
  intro p e s m args below meth c ls hx hb hr hml hlocks hts hown hnm htab hW hl
  have hown : s.vm.findClass RX0 = some m.cls := hown
  obtain ⟨L0, hL0⟩ : ∃ L0, L0 = L := ⟨_, rfl⟩
  obtain ⟨σ0, hσ0⟩ : ∃ σ0, σ0 = σ := ⟨_, rfl⟩
  rw [← hσ0, ← hL0]
  have hx0 : lext L0 σ0 L σ := by rw [hL0, hσ0]; exact lext.refl
  have hcs : bk σ0 σ 0 0 := bk.start hσ0
  have hrm : 0 ≤ cu_ σ_ - cu_ σ0 ∧ 0 ≤ su_ σ_ - su_ σ0 := ⟨Nat.zero_le _, Nat.zero_le _⟩
  have hl : lv_has ls 5 [(0, .ref (L 1 0)), (1, .int a2), (2, .int a3), (3, .ref (L 100 0))] := hl
  unfold m_X0_cost at hs
  refine lv_aload_n hx hb dX0_cost_0 rfl (lv_at hl 3 rfl) ?_
  refine lv_iconst (v := 0) hx hb dX0_cost_1 (by decide) ?_
  refine lv_aload_n hx hb dX0_cost_2 rfl (lv_at hl 0 rfl) ?_
  refine lv_iload_n hx hb dX0_cost_3 rfl (lv_at hl 1 rfl) ?_
  refine lv_iload_n hx hb dX0_cost_4 rfl (lv_at hl 2 rfl) ?_
  obtain ⟨o3, σ4, hc1, hs⟩ := ww_bn2 hs
  obtain ⟨hkp, hs⟩ := ww_pif hs
  obtain ⟨hx0, hcs⟩ := lx_s hx0 hcs hkp
  rcases o3 with k5 | v6
  · have hs := ww_sL hs
    by_cases hk7 : k5 = 3
    · have hs := ww_T hs hk7
      rw [hk7] at hc1
      obtain ⟨σ9, e10, hs⟩ := ww_let hs
      obtain ⟨hs, hck⟩ := ww_ck2 hs
      have hrm1 := hcs.room (σ1 := σ9) (a := 1) (b := 6) (by rw [e10]; rfl) (by rw [e10]; rfl) hck
      refine ww_catN (hpc := 13) (vx_runV (As := [.int a2, .int a3]) (rest := [.int (0 : Int32), .ref (L 100 0)]) ⟨hx, hb, hml, hown, hts⟩ (c_X1_cost g hgm l L σ a2 a3 hst _ _ hc1) (cwV 2 hts (lw_V q1187 q1188 q1189 q111 q1190) rfl rfl rfl hd_X1_cost ⟨(Nat.le_of_ble_eq_true rfl), (Nat.le_of_ble_eq_true rfl)⟩) (ww_preV hW (pr_st (hW.rd hgm) (Nat.le_of_ble_eq_true rfl)) (obv_0 rfl) rfl) rfl rfl hl.1 rfl (lv_room (Nat.le_of_ble_eq_true rfl)) dX0_cost_5 hrm1) no_i hW (fun H1 locs1 q ce cells1 slots1 h1 h2 h3 kk => vx_catch (own := RX0) (name := exN 3) hown [] ⟨0, 10, 13, 52⟩ [⟨0, 10, 17, 13⟩] (htab.trans rfl) (fun z hz => by cases hz) rfl (by decide) (hts _ q1186) (va_Nw.use rfl (hW.nw 55 rfl)) h1 h2 h3 kk) (fun H locs q8 hW => ?_)
      rw [← e10] at hW
      have hx0 : lext L0 σ0 L σ9 := by rw [e10]; exact hx0.trans lext_bX
      have hcs := hcs.more (σ1 := σ9) (a := 1) (b := 6) (by rw [e10]; rfl) (by rw [e10]; rfl)
      have hrm := hrm1
      refine lv_astore (lv' := [(4, .ref q8), (0, .ref (L 1 0)), (1, .int a2), (2, .int a3), (3, .ref (L 100 0))]) hx hb dX0_cost_13 hl (by decide) rfl (fun ls hl => ?_)
      refine lv_iconst (v := 1) hx hb dX0_cost_15 (by decide) ?_
      have hs := ww_S hs
      exact vx_ret (wa_i hx hb hr hlocks hx0 hcs hW (congrArg Prod.fst hs) (congrArg Prod.snd hs) dX0_cost_16)
    · have hs := ww_F hs hk7
      by_cases hk11 : k5 = 0
      · have hs := ww_T hs hk11
        rw [hk11] at hc1
        obtain ⟨σ13, e14, hs⟩ := ww_let hs
        obtain ⟨hs, hck⟩ := ww_ck2 hs
        have hrm1 := hcs.room (σ1 := σ13) (a := 1) (b := 6) (by rw [e14]; rfl) (by rw [e14]; rfl) hck
        refine ww_catN (hpc := 17) (vx_runV (As := [.int a2, .int a3]) (rest := [.int (0 : Int32), .ref (L 100 0)]) ⟨hx, hb, hml, hown, hts⟩ (c_X1_cost g hgm l L σ a2 a3 hst _ _ hc1) (cwV 2 hts (lw_V q1187 q1188 q1189 q111 q1190) rfl rfl rfl hd_X1_cost ⟨(Nat.le_of_ble_eq_true rfl), (Nat.le_of_ble_eq_true rfl)⟩) (ww_preV hW (pr_st (hW.rd hgm) (Nat.le_of_ble_eq_true rfl)) (obv_0 rfl) rfl) rfl rfl hl.1 rfl (lv_room (Nat.le_of_ble_eq_true rfl)) dX0_cost_5 hrm1) no_i hW (fun H1 locs1 q ce cells1 slots1 h1 h2 h3 kk => vx_catch (own := RX0) (name := exN 0) hown [⟨0, 10, 13, 52⟩] ⟨0, 10, 17, 13⟩ [] (htab.trans rfl) (fun z hz => by simp only [List.mem_cons, List.not_mem_nil, or_false] at hz; rcases hz with rfl <;> first | exact Or.inr ⟨by decide, _, hts _ q1186, hW.1.2.2.2.2.2.2.2.2.2.2.2.2.2.2.2 0 3 (by decide) (by decide) (by decide)⟩) rfl (by decide) (hts _ q737) (va_Nw.use rfl (hW.nw 41 rfl)) h1 h2 h3 kk) (fun H locs q12 hW => ?_)
        rw [← e14] at hW
        have hx0 : lext L0 σ0 L σ13 := by rw [e14]; exact hx0.trans lext_bX
        have hcs := hcs.more (σ1 := σ13) (a := 1) (b := 6) (by rw [e14]; rfl) (by rw [e14]; rfl)
        have hrm := hrm1
        refine lv_astore (lv' := [(4, .ref q12), (0, .ref (L 1 0)), (1, .int a2), (2, .int a3), (3, .ref (L 100 0))]) hx hb dX0_cost_17 hl (by decide) rfl (fun ls hl => ?_)
        refine lv_iconst (v := 2) hx hb dX0_cost_19 (by decide) ?_
        have hs := ww_S hs
        exact vx_ret (wa_i hx hb hr hlocks hx0 hcs hW (congrArg Prod.fst hs) (congrArg Prod.snd hs) dX0_cost_20)
      · have hs := ww_F hs hk11
        cases hs
  · have hs := ww_sR hs
    refine ww_xi0 (vx_runV (As := [.int a2, .int a3]) (rest := [.int (0 : Int32), .ref (L 100 0)]) ⟨hx, hb, hml, hown, hts⟩ (c_X1_cost g hgm l L σ a2 a3 hst _ _ hc1) (cwV 2 hts (lw_V q1187 q1188 q1189 q111 q1190) rfl rfl rfl hd_X1_cost ⟨(Nat.le_of_ble_eq_true rfl), (Nat.le_of_ble_eq_true rfl)⟩) (ww_preV hW (pr_st (hW.rd hgm) (Nat.le_of_ble_eq_true rfl)) (obv_0 rfl) rfl) rfl rfl hl.1 rfl (lv_room (Nat.le_of_ble_eq_true rfl)) dX0_cost_5 hrm) hW (fun H locs hW => ?_)
    refine lv_i2l hx hb dX0_cost_8 rfl ?_
    obtain ⟨hc15, hs⟩ := ww_chk hs
    obtain ⟨σ16, e17, hs⟩ := ww_let hs
    refine ww_last hx hb hW hc15 (j := (0 : Int32)) rfl dX0_cost_9 (fun H locs hW => ?_)
    have hW : wv g L σ16 s H locs := by rw [e17]; exact hW
    obtain ⟨hx0, hcs⟩ := lx_s (σ1 := σ16) hx0 hcs (by rw [e17]; exact kp_O)
    refine lv_goto (tgt := 21) hx hb dX0_cost_10 (by decide) ?_
    refine lv_iconst (v := 0) hx hb dX0_cost_21 (by decide) ?_
    have hs := ww_S hs
    exact vx_ret (wa_i hx hb hr hlocks hx0 hcs hW (congrArg Prod.fst hs) (congrArg Prod.snd hs) dX0_cost_22)
set_option maxHeartbeats 4000000 in
theorem c_X0_way (g : wg_T) (hgm : gm g = true) (l : Launch) (L : ly_T) (σ : st_T) (a2 : Int32) (a3 : Int32) (a4 : Int32) (hst : l.stackTraces = false) (r_ : Int32) (σ_ : st_T) (hs : m_X0_way σ a2 a3 a4 = some (r_, σ_)) : AI g l yX0_way (wsW_ yX0_way cX0_way 6 (some .int) [(0, 12, 15, 52), (0, 12, 19, 13)]) 10 195 [.ref (L 1 0), .int a2, .int a3, .int a4, .ref (L 100 0)] L σ r_ σ_ := by
  refine hbody.metN (by decide) (Nat.le_of_ble_eq_true rfl) ?_
  intro p e s m args below meth c ls hx hb hr hml hlocks hts hown hnm htab hW hl
  have hown : s.vm.findClass RX0 = some m.cls := hown
  obtain ⟨L0, hL0⟩ : ∃ L0, L0 = L := ⟨_, rfl⟩
  obtain ⟨σ0, hσ0⟩ : ∃ σ0, σ0 = σ := ⟨_, rfl⟩
  rw [← hσ0, ← hL0]
  have hx0 : lext L0 σ0 L σ := by rw [hL0, hσ0]; exact lext.refl
  have hcs : bk σ0 σ 0 0 := bk.start hσ0
  have hrm : 0 ≤ cu_ σ_ - cu_ σ0 ∧ 0 ≤ su_ σ_ - su_ σ0 := ⟨Nat.zero_le _, Nat.zero_le _⟩
  have hl : lv_has ls 6 [(0, .ref (L 1 0)), (1, .int a2), (2, .int a3), (3, .int a4), (4, .ref (L 100 0))] := hl
  unfold m_X0_way at hs
  refine lv_aload hx hb dX0_way_0 (lv_at hl 4 rfl) ?_
  refine lv_iconst (v := 0) hx hb dX0_way_2 (by decide) ?_
  refine lv_aload_n hx hb dX0_way_3 rfl (lv_at hl 0 rfl) ?_
  refine lv_iload_n hx hb dX0_way_4 rfl (lv_at hl 1 rfl) ?_
  refine lv_iload_n hx hb dX0_way_5 rfl (lv_at hl 2 rfl) ?_
  refine lv_iload_n hx hb dX0_way_6 rfl (lv_at hl 3 rfl) ?_
  obtain ⟨o3, σ4, hc1, hs⟩ := ww_bn2 hs
  obtain ⟨hkp, hs⟩ := ww_pif hs
  obtain ⟨hx0, hcs⟩ := lx_s hx0 hcs hkp
  rcases o3 with k5 | v6
  · have hs := ww_sL hs
    by_cases hk7 : k5 = 3
    · have hs := ww_T hs hk7
      rw [hk7] at hc1
      obtain ⟨σ9, e10, hs⟩ := ww_let hs
      obtain ⟨hs, hck⟩ := ww_ck2 hs
      have hrm1 := hcs.room (σ1 := σ9) (a := 1) (b := 6) (by rw [e10]; rfl) (by rw [e10]; rfl) hck
      refine ww_catN (hpc := 15) (vx_runV (As := [.int a2, .int a3, .int a4]) (rest := [.int (0 : Int32), .ref (L 100 0)]) ⟨hx, hb, hml, hown, hts⟩ (c_X1_way g hgm l L σ a2 a3 a4 hst _ _ hc1) (cwV 3 hts (lw_V q1213 q1214 q1215 q111 q1216) rfl rfl rfl hd_X1_way ⟨(Nat.le_of_ble_eq_true rfl), (Nat.le_of_ble_eq_true rfl)⟩) (ww_preV hW (pr_st (hW.rd hgm) (Nat.le_of_ble_eq_true rfl)) (obv_0 rfl) rfl) rfl rfl hl.1 rfl (lv_room (Nat.le_of_ble_eq_true rfl)) dX0_way_7 hrm1) no_i hW (fun H1 locs1 q ce cells1 slots1 h1 h2 h3 kk => vx_catch (own := RX0) (name := exN 3) hown [] ⟨0, 12, 15, 52⟩ [⟨0, 12, 19, 13⟩] (htab.trans rfl) (fun z hz => by cases hz) rfl (by decide) (hts _ q1186) (va_Nw.use rfl (hW.nw 55 rfl)) h1 h2 h3 kk) (fun H locs q8 hW => ?_)
      rw [← e10] at hW
      have hx0 : lext L0 σ0 L σ9 := by rw [e10]; exact hx0.trans lext_bX
      have hcs := hcs.more (σ1 := σ9) (a := 1) (b := 6) (by rw [e10]; rfl) (by rw [e10]; rfl)
      have hrm := hrm1
      refine lv_astore (lv' := [(5, .ref q8), (0, .ref (L 1 0)), (1, .int a2), (2, .int a3), (3, .int a4), (4, .ref (L 100 0))]) hx hb dX0_way_15 hl (by decide) rfl (fun ls hl => ?_)
      refine lv_iconst (v := 1) hx hb dX0_way_17 (by decide) ?_
      have hs := ww_S hs
      exact vx_ret (wa_i hx hb hr hlocks hx0 hcs hW (congrArg Prod.fst hs) (congrArg Prod.snd hs) dX0_way_18)
    · have hs := ww_F hs hk7
      by_cases hk11 : k5 = 0
      · have hs := ww_T hs hk11
        rw [hk11] at hc1
        obtain ⟨σ13, e14, hs⟩ := ww_let hs
        obtain ⟨hs, hck⟩ := ww_ck2 hs
        have hrm1 := hcs.room (σ1 := σ13) (a := 1) (b := 6) (by rw [e14]; rfl) (by rw [e14]; rfl) hck
        refine ww_catN (hpc := 19) (vx_runV (As := [.int a2, .int a3, .int a4]) (rest := [.int (0 : Int32), .ref (L 100 0)]) ⟨hx, hb, hml, hown, hts⟩ (c_X1_way g hgm l L σ a2 a3 a4 hst _ _ hc1) (cwV 3 hts (lw_V q1213 q1214 q1215 q111 q1216) rfl rfl rfl hd_X1_way ⟨(Nat.le_of_ble_eq_true rfl), (Nat.le_of_ble_eq_true rfl)⟩) (ww_preV hW (pr_st (hW.rd hgm) (Nat.le_of_ble_eq_true rfl)) (obv_0 rfl) rfl) rfl rfl hl.1 rfl (lv_room (Nat.le_of_ble_eq_true rfl)) dX0_way_7 hrm1) no_i hW (fun H1 locs1 q ce cells1 slots1 h1 h2 h3 kk => vx_catch (own := RX0) (name := exN 0) hown [⟨0, 12, 15, 52⟩] ⟨0, 12, 19, 13⟩ [] (htab.trans rfl) (fun z hz => by simp only [List.mem_cons, List.not_mem_nil, or_false] at hz; rcases hz with rfl <;> first | exact Or.inr ⟨by decide, _, hts _ q1186, hW.1.2.2.2.2.2.2.2.2.2.2.2.2.2.2.2 0 3 (by decide) (by decide) (by decide)⟩) rfl (by decide) (hts _ q737) (va_Nw.use rfl (hW.nw 41 rfl)) h1 h2 h3 kk) (fun H locs q12 hW => ?_)
        rw [← e14] at hW
        have hx0 : lext L0 σ0 L σ13 := by rw [e14]; exact hx0.trans lext_bX
        have hcs := hcs.more (σ1 := σ13) (a := 1) (b := 6) (by rw [e14]; rfl) (by rw [e14]; rfl)
        have hrm := hrm1
        refine lv_astore (lv' := [(5, .ref q12), (0, .ref (L 1 0)), (1, .int a2), (2, .int a3), (3, .int a4), (4, .ref (L 100 0))]) hx hb dX0_way_19 hl (by decide) rfl (fun ls hl => ?_)
        refine lv_iconst (v := 2) hx hb dX0_way_21 (by decide) ?_
        have hs := ww_S hs
        exact vx_ret (wa_i hx hb hr hlocks hx0 hcs hW (congrArg Prod.fst hs) (congrArg Prod.snd hs) dX0_way_22)
      · have hs := ww_F hs hk11
        cases hs
  · have hs := ww_sR hs
    refine ww_xi0 (vx_runV (As := [.int a2, .int a3, .int a4]) (rest := [.int (0 : Int32), .ref (L 100 0)]) ⟨hx, hb, hml, hown, hts⟩ (c_X1_way g hgm l L σ a2 a3 a4 hst _ _ hc1) (cwV 3 hts (lw_V q1213 q1214 q1215 q111 q1216) rfl rfl rfl hd_X1_way ⟨(Nat.le_of_ble_eq_true rfl), (Nat.le_of_ble_eq_true rfl)⟩) (ww_preV hW (pr_st (hW.rd hgm) (Nat.le_of_ble_eq_true rfl)) (obv_0 rfl) rfl) rfl rfl hl.1 rfl (lv_room (Nat.le_of_ble_eq_true rfl)) dX0_way_7 hrm) hW (fun H locs hW => ?_)
    refine lv_i2l hx hb dX0_way_10 rfl ?_
    obtain ⟨hc15, hs⟩ := ww_chk hs
    obtain ⟨σ16, e17, hs⟩ := ww_let hs
    refine ww_last hx hb hW hc15 (j := (0 : Int32)) rfl dX0_way_11 (fun H locs hW => ?_)
    have hW : wv g L σ16 s H locs := by rw [e17]; exact hW
    obtain ⟨hx0, hcs⟩ := lx_s (σ1 := σ16) hx0 hcs (by rw [e17]; exact kp_O)
    refine lv_goto (tgt := 23) hx hb dX0_way_12 (by decide) ?_
    refine lv_iconst (v := 0) hx hb dX0_way_23 (by decide) ?_
    have hs := ww_S hs
    exact vx_ret (wa_i hx hb hr hlocks hx0 hcs hW (congrArg Prod.fst hs) (congrArg Prod.snd hs) dX0_way_24)
set_option maxHeartbeats 4000000 in
theorem c_X0_foretold (g : wg_T) (hgm : gm g = true) (l : Launch) (L : ly_T) (σ : st_T) (a2 : Int32) (a3 : Int32) (hst : l.stackTraces = false) (r_ : Int32) (σ_ : st_T) (hs : m_X0_foretold σ a2 a3 = some (r_, σ_)) : AI g l yX0_foretold (wsW_ yX0_foretold cX0_foretold 5 (some .int) [(0, 10, 13, 15)]) 11 255 [.ref (L 1 0), .int a2, .int a3, .ref (L 100 0)] L σ r_ σ_ := by
  refine hbody.metN (by decide) (Nat.le_of_ble_eq_true rfl) ?_
  intro p e s m args below meth c ls hx hb hr hml hlocks hts hown hnm htab hW hl
  have hown : s.vm.findClass RX0 = some m.cls := hown
  obtain ⟨L0, hL0⟩ : ∃ L0, L0 = L := ⟨_, rfl⟩
  obtain ⟨σ0, hσ0⟩ : ∃ σ0, σ0 = σ := ⟨_, rfl⟩
  rw [← hσ0, ← hL0]
  have hx0 : lext L0 σ0 L σ := by rw [hL0, hσ0]; exact lext.refl
  have hcs : bk σ0 σ 0 0 := bk.start hσ0
  have hrm : 0 ≤ cu_ σ_ - cu_ σ0 ∧ 0 ≤ su_ σ_ - su_ σ0 := ⟨Nat.zero_le _, Nat.zero_le _⟩
  have hl : lv_has ls 5 [(0, .ref (L 1 0)), (1, .int a2), (2, .int a3), (3, .ref (L 100 0))] := hl
  unfold m_X0_foretold at hs
  refine lv_aload_n hx hb dX0_foretold_0 rfl (lv_at hl 3 rfl) ?_
  refine lv_iconst (v := 0) hx hb dX0_foretold_1 (by decide) ?_
  refine lv_aload_n hx hb dX0_foretold_2 rfl (lv_at hl 0 rfl) ?_
  refine lv_iload_n hx hb dX0_foretold_3 rfl (lv_at hl 1 rfl) ?_
  refine lv_iload_n hx hb dX0_foretold_4 rfl (lv_at hl 2 rfl) ?_
  obtain ⟨o3, σ4, hc1, hs⟩ := ww_bn2 hs
  obtain ⟨hkp, hs⟩ := ww_pif hs
  obtain ⟨hx0, hcs⟩ := lx_s hx0 hcs hkp
  rcases o3 with k5 | v6
  · have hs := ww_sL hs
    by_cases hk7 : k5 = 1
    · have hs := ww_T hs hk7
      rw [hk7] at hc1
      obtain ⟨σ9, e10, hs⟩ := ww_let hs
      obtain ⟨hs, hck⟩ := ww_ck2 hs
      have hrm1 := hcs.room (σ1 := σ9) (a := 1) (b := 6) (by rw [e10]; rfl) (by rw [e10]; rfl) hck
      refine ww_catN (hpc := 13) (vx_runV (As := [.int a2, .int a3]) (rest := [.int (0 : Int32), .ref (L 100 0)]) ⟨hx, hb, hml, hown, hts⟩ (c_X1_foretold g hgm l L σ a2 a3 hst _ _ hc1) (cwV 2 hts (lw_V q1220 q1221 q1222 q111 q1223) rfl rfl rfl hd_X1_foretold ⟨(Nat.le_of_ble_eq_true rfl), (Nat.le_of_ble_eq_true rfl)⟩) (ww_preV hW (pr_st (hW.rd hgm) (Nat.le_of_ble_eq_true rfl)) (obv_0 rfl) rfl) rfl rfl hl.1 rfl (lv_room (Nat.le_of_ble_eq_true rfl)) dX0_foretold_5 hrm1) no_i hW (fun H1 locs1 q ce cells1 slots1 h1 h2 h3 kk => vx_catch (own := RX0) (name := exN 1) hown [] ⟨0, 10, 13, 15⟩ [] (htab.trans rfl) (fun z hz => by cases hz) rfl (by decide) (hts _ q815) (va_Nw.use rfl (hW.nw 42 rfl)) h1 h2 h3 kk) (fun H locs q8 hW => ?_)
      rw [← e10] at hW
      have hx0 : lext L0 σ0 L σ9 := by rw [e10]; exact hx0.trans lext_bX
      have hcs := hcs.more (σ1 := σ9) (a := 1) (b := 6) (by rw [e10]; rfl) (by rw [e10]; rfl)
      have hrm := hrm1
      refine lv_astore (lv' := [(4, .ref q8), (0, .ref (L 1 0)), (1, .int a2), (2, .int a3), (3, .ref (L 100 0))]) hx hb dX0_foretold_13 hl (by decide) rfl (fun ls hl => ?_)
      refine lv_iconst (v := 1) hx hb dX0_foretold_15 (by decide) ?_
      have hs := ww_S hs
      exact vx_ret (wa_i hx hb hr hlocks hx0 hcs hW (congrArg Prod.fst hs) (congrArg Prod.snd hs) dX0_foretold_16)
    · have hs := ww_F hs hk7
      cases hs
  · have hs := ww_sR hs
    refine ww_xi0 (vx_runV (As := [.int a2, .int a3]) (rest := [.int (0 : Int32), .ref (L 100 0)]) ⟨hx, hb, hml, hown, hts⟩ (c_X1_foretold g hgm l L σ a2 a3 hst _ _ hc1) (cwV 2 hts (lw_V q1220 q1221 q1222 q111 q1223) rfl rfl rfl hd_X1_foretold ⟨(Nat.le_of_ble_eq_true rfl), (Nat.le_of_ble_eq_true rfl)⟩) (ww_preV hW (pr_st (hW.rd hgm) (Nat.le_of_ble_eq_true rfl)) (obv_0 rfl) rfl) rfl rfl hl.1 rfl (lv_room (Nat.le_of_ble_eq_true rfl)) dX0_foretold_5 hrm) hW (fun H locs hW => ?_)
    refine lv_i2l hx hb dX0_foretold_8 rfl ?_
    obtain ⟨hc11, hs⟩ := ww_chk hs
    obtain ⟨σ12, e13, hs⟩ := ww_let hs
    refine ww_last hx hb hW hc11 (j := (0 : Int32)) rfl dX0_foretold_9 (fun H locs hW => ?_)
    have hW : wv g L σ12 s H locs := by rw [e13]; exact hW
    obtain ⟨hx0, hcs⟩ := lx_s (σ1 := σ12) hx0 hcs (by rw [e13]; exact kp_O)
    refine lv_goto (tgt := 17) hx hb dX0_foretold_10 (by decide) ?_
    refine lv_iconst (v := 0) hx hb dX0_foretold_17 (by decide) ?_
    have hs := ww_S hs
    exact vx_ret (wa_i hx hb hr hlocks hx0 hcs hW (congrArg Prod.fst hs) (congrArg Prod.snd hs) dX0_foretold_18)
set_option maxHeartbeats 4000000 in
theorem c_X0_pushed (g : wg_T) (hgm : gm g = true) (l : Launch) (L : ly_T) (σ : st_T) (a2 : Int32) (a3 : Int32) (a4 : Int32) (hst : l.stackTraces = false) (r_ : Int32) (σ_ : st_T) (hs : m_X0_pushed σ a2 a3 a4 = some (r_, σ_)) : AI g l yX0_pushed (wsW_ yX0_pushed cX0_pushed 6 (some .int) [(0, 12, 15, 13), (0, 12, 19, 15)]) 11 256 [.ref (L 1 0), .int a2, .int a3, .int a4, .ref (L 100 0)] L σ r_ σ_ := by
  refine hbody.metN (by decide) (Nat.le_of_ble_eq_true rfl) ?_
  intro p e s m args below meth c ls hx hb hr hml hlocks hts hown hnm htab hW hl
  have hown : s.vm.findClass RX0 = some m.cls := hown
  obtain ⟨L0, hL0⟩ : ∃ L0, L0 = L := ⟨_, rfl⟩
  obtain ⟨σ0, hσ0⟩ : ∃ σ0, σ0 = σ := ⟨_, rfl⟩
  rw [← hσ0, ← hL0]
  have hx0 : lext L0 σ0 L σ := by rw [hL0, hσ0]; exact lext.refl
  have hcs : bk σ0 σ 0 0 := bk.start hσ0
  have hrm : 0 ≤ cu_ σ_ - cu_ σ0 ∧ 0 ≤ su_ σ_ - su_ σ0 := ⟨Nat.zero_le _, Nat.zero_le _⟩
  have hl : lv_has ls 6 [(0, .ref (L 1 0)), (1, .int a2), (2, .int a3), (3, .int a4), (4, .ref (L 100 0))] := hl
  unfold m_X0_pushed at hs
  refine lv_aload hx hb dX0_pushed_0 (lv_at hl 4 rfl) ?_
  refine lv_iconst (v := 0) hx hb dX0_pushed_2 (by decide) ?_
  refine lv_aload_n hx hb dX0_pushed_3 rfl (lv_at hl 0 rfl) ?_
  refine lv_iload_n hx hb dX0_pushed_4 rfl (lv_at hl 1 rfl) ?_
  refine lv_iload_n hx hb dX0_pushed_5 rfl (lv_at hl 2 rfl) ?_
  refine lv_iload_n hx hb dX0_pushed_6 rfl (lv_at hl 3 rfl) ?_
  obtain ⟨o3, σ4, hc1, hs⟩ := ww_bn2 hs
  obtain ⟨hkp, hs⟩ := ww_pif hs
  obtain ⟨hx0, hcs⟩ := lx_s hx0 hcs hkp
  rcases o3 with k5 | v6
  · have hs := ww_sL hs
    by_cases hk7 : k5 = 0
    · have hs := ww_T hs hk7
      rw [hk7] at hc1
      obtain ⟨σ9, e10, hs⟩ := ww_let hs
      obtain ⟨hs, hck⟩ := ww_ck2 hs
      have hrm1 := hcs.room (σ1 := σ9) (a := 1) (b := 6) (by rw [e10]; rfl) (by rw [e10]; rfl) hck
      refine ww_catN (hpc := 15) (vx_runV (As := [.int a2, .int a3, .int a4]) (rest := [.int (0 : Int32), .ref (L 100 0)]) ⟨hx, hb, hml, hown, hts⟩ (c_X1_pushed g hgm l L σ a2 a3 a4 hst _ _ hc1) (cwV 3 hts (lw_V q1230 q1231 q1232 q111 q1233) rfl rfl rfl hd_X1_pushed ⟨(Nat.le_of_ble_eq_true rfl), (Nat.le_of_ble_eq_true rfl)⟩) (ww_preV hW (pr_st (hW.rd hgm) (Nat.le_of_ble_eq_true rfl)) (obv_0 rfl) rfl) rfl rfl hl.1 rfl (lv_room (Nat.le_of_ble_eq_true rfl)) dX0_pushed_7 hrm1) no_i hW (fun H1 locs1 q ce cells1 slots1 h1 h2 h3 kk => vx_catch (own := RX0) (name := exN 0) hown [] ⟨0, 12, 15, 13⟩ [⟨0, 12, 19, 15⟩] (htab.trans rfl) (fun z hz => by cases hz) rfl (by decide) (hts _ q737) (va_Nw.use rfl (hW.nw 41 rfl)) h1 h2 h3 kk) (fun H locs q8 hW => ?_)
      rw [← e10] at hW
      have hx0 : lext L0 σ0 L σ9 := by rw [e10]; exact hx0.trans lext_bX
      have hcs := hcs.more (σ1 := σ9) (a := 1) (b := 6) (by rw [e10]; rfl) (by rw [e10]; rfl)
      have hrm := hrm1
      refine lv_astore (lv' := [(5, .ref q8), (0, .ref (L 1 0)), (1, .int a2), (2, .int a3), (3, .int a4), (4, .ref (L 100 0))]) hx hb dX0_pushed_15 hl (by decide) rfl (fun ls hl => ?_)
      refine lv_iconst (v := 1) hx hb dX0_pushed_17 (by decide) ?_
      have hs := ww_S hs
      exact vx_ret (wa_i hx hb hr hlocks hx0 hcs hW (congrArg Prod.fst hs) (congrArg Prod.snd hs) dX0_pushed_18)
    · have hs := ww_F hs hk7
      by_cases hk11 : k5 = 1
      · have hs := ww_T hs hk11
        rw [hk11] at hc1
        obtain ⟨σ13, e14, hs⟩ := ww_let hs
        obtain ⟨hs, hck⟩ := ww_ck2 hs
        have hrm1 := hcs.room (σ1 := σ13) (a := 1) (b := 6) (by rw [e14]; rfl) (by rw [e14]; rfl) hck
        refine ww_catN (hpc := 19) (vx_runV (As := [.int a2, .int a3, .int a4]) (rest := [.int (0 : Int32), .ref (L 100 0)]) ⟨hx, hb, hml, hown, hts⟩ (c_X1_pushed g hgm l L σ a2 a3 a4 hst _ _ hc1) (cwV 3 hts (lw_V q1230 q1231 q1232 q111 q1233) rfl rfl rfl hd_X1_pushed ⟨(Nat.le_of_ble_eq_true rfl), (Nat.le_of_ble_eq_true rfl)⟩) (ww_preV hW (pr_st (hW.rd hgm) (Nat.le_of_ble_eq_true rfl)) (obv_0 rfl) rfl) rfl rfl hl.1 rfl (lv_room (Nat.le_of_ble_eq_true rfl)) dX0_pushed_7 hrm1) no_i hW (fun H1 locs1 q ce cells1 slots1 h1 h2 h3 kk => vx_catch (own := RX0) (name := exN 1) hown [⟨0, 12, 15, 13⟩] ⟨0, 12, 19, 15⟩ [] (htab.trans rfl) (fun z hz => by simp only [List.mem_cons, List.not_mem_nil, or_false] at hz; rcases hz with rfl <;> first | exact Or.inr ⟨by decide, _, hts _ q737, hW.1.2.2.2.2.2.2.2.2.2.2.2.2.2.2.2 1 0 (by decide) (by decide) (by decide)⟩) rfl (by decide) (hts _ q815) (va_Nw.use rfl (hW.nw 42 rfl)) h1 h2 h3 kk) (fun H locs q12 hW => ?_)
        rw [← e14] at hW
        have hx0 : lext L0 σ0 L σ13 := by rw [e14]; exact hx0.trans lext_bX
        have hcs := hcs.more (σ1 := σ13) (a := 1) (b := 6) (by rw [e14]; rfl) (by rw [e14]; rfl)
        have hrm := hrm1
        refine lv_astore (lv' := [(5, .ref q12), (0, .ref (L 1 0)), (1, .int a2), (2, .int a3), (3, .int a4), (4, .ref (L 100 0))]) hx hb dX0_pushed_19 hl (by decide) rfl (fun ls hl => ?_)
        refine lv_iconst (v := 2) hx hb dX0_pushed_21 (by decide) ?_
        have hs := ww_S hs
        exact vx_ret (wa_i hx hb hr hlocks hx0 hcs hW (congrArg Prod.fst hs) (congrArg Prod.snd hs) dX0_pushed_22)
      · have hs := ww_F hs hk11
        cases hs
  · have hs := ww_sR hs
    refine ww_xi0 (vx_runV (As := [.int a2, .int a3, .int a4]) (rest := [.int (0 : Int32), .ref (L 100 0)]) ⟨hx, hb, hml, hown, hts⟩ (c_X1_pushed g hgm l L σ a2 a3 a4 hst _ _ hc1) (cwV 3 hts (lw_V q1230 q1231 q1232 q111 q1233) rfl rfl rfl hd_X1_pushed ⟨(Nat.le_of_ble_eq_true rfl), (Nat.le_of_ble_eq_true rfl)⟩) (ww_preV hW (pr_st (hW.rd hgm) (Nat.le_of_ble_eq_true rfl)) (obv_0 rfl) rfl) rfl rfl hl.1 rfl (lv_room (Nat.le_of_ble_eq_true rfl)) dX0_pushed_7 hrm) hW (fun H locs hW => ?_)
    refine lv_i2l hx hb dX0_pushed_10 rfl ?_
    obtain ⟨hc15, hs⟩ := ww_chk hs
    obtain ⟨σ16, e17, hs⟩ := ww_let hs
    refine ww_last hx hb hW hc15 (j := (0 : Int32)) rfl dX0_pushed_11 (fun H locs hW => ?_)
    have hW : wv g L σ16 s H locs := by rw [e17]; exact hW
    obtain ⟨hx0, hcs⟩ := lx_s (σ1 := σ16) hx0 hcs (by rw [e17]; exact kp_O)
    refine lv_goto (tgt := 23) hx hb dX0_pushed_12 (by decide) ?_
    refine lv_iconst (v := 0) hx hb dX0_pushed_23 (by decide) ?_
    have hs := ww_S hs
    exact vx_ret (wa_i hx hb hr hlocks hx0 hcs hW (congrArg Prod.fst hs) (congrArg Prod.snd hs) dX0_pushed_24)
set_option maxHeartbeats 4000000 in
theorem c_X0_build (g : wg_T) (hgm : gm g = true) (l : Launch) (L : ly_T) (σ : st_T) (a2 : Int32) (a3 : Int32) (hst : l.stackTraces = false) (r_ : Int32) (σ_ : st_T) (hs : m_X0_build σ a2 a3 = some (r_, σ_)) : AI g l yX0_build (wsW_ yX0_build cX0_build 5 (some .int) [(0, 10, 13, 15)]) 11 263 [.ref (L 1 0), .int a2, .int a3, .ref (L 100 0)] L σ r_ σ_ := by
  refine hbody.metN (by decide) (Nat.le_of_ble_eq_true rfl) ?_
  intro p e s m args below meth c ls hx hb hr hml hlocks hts hown hnm htab hW hl
  have hown : s.vm.findClass RX0 = some m.cls := hown
  obtain ⟨L0, hL0⟩ : ∃ L0, L0 = L := ⟨_, rfl⟩
  obtain ⟨σ0, hσ0⟩ : ∃ σ0, σ0 = σ := ⟨_, rfl⟩
  rw [← hσ0, ← hL0]
  have hx0 : lext L0 σ0 L σ := by rw [hL0, hσ0]; exact lext.refl
  have hcs : bk σ0 σ 0 0 := bk.start hσ0
  have hrm : 0 ≤ cu_ σ_ - cu_ σ0 ∧ 0 ≤ su_ σ_ - su_ σ0 := ⟨Nat.zero_le _, Nat.zero_le _⟩
  have hl : lv_has ls 5 [(0, .ref (L 1 0)), (1, .int a2), (2, .int a3), (3, .ref (L 100 0))] := hl
  unfold m_X0_build at hs
  refine lv_aload_n hx hb dX0_build_0 rfl (lv_at hl 3 rfl) ?_
  refine lv_iconst (v := 0) hx hb dX0_build_1 (by decide) ?_
  refine lv_aload_n hx hb dX0_build_2 rfl (lv_at hl 0 rfl) ?_
  refine lv_iload_n hx hb dX0_build_3 rfl (lv_at hl 1 rfl) ?_
  refine lv_iload_n hx hb dX0_build_4 rfl (lv_at hl 2 rfl) ?_
  obtain ⟨o3, σ4, hc1, hs⟩ := ww_bn2 hs
  have hl : lv_has ls 5 [] := lv_sub hl [] rfl
  obtain ⟨hc7, hs⟩ := ww_chk hs
  have hp8 : pr σ 100 0 := (pr_dy hc7 rfl rfl)
  obtain ⟨hc9, hs⟩ := ww_chk hs
  obtain ⟨hs, hck⟩ := ww_ck2 hs
  have hrm1 := hcs.roomC hc9 hck
  rcases o3 with k5 | v6
  · have hs := ww_sL hs
    by_cases hk10 : k5 = 1
    · have hs := ww_T hs hk10
      rw [hk10] at hc1
      refine ww_catA (hpc := 13) (vx_runV (As := [.int a2, .int a3]) (rest := [.int (0 : Int32), .ref (L 100 0)]) ⟨hx, hb, hml, hown, hts⟩ (c_X1_build g hgm l L σ a2 a3 hst _ _ hc1) (cwV 2 hts (lw_V q1237 q1238 q1239 q111 q1240) rfl rfl rfl hd_X1_build ⟨(Nat.le_of_ble_eq_true rfl), (Nat.le_of_ble_eq_true rfl)⟩) (ww_preV hW (pr_st (hW.rd hgm) (Nat.le_of_ble_eq_true rfl)) (obv_0 rfl) rfl) rfl rfl hl.1 rfl (lv_room (Nat.le_of_ble_eq_true rfl)) dX0_build_5 hrm1) noA_i hW (fun H1 locs1 q ce cells1 slots1 h1 h2 h3 kk => vx_catch (own := RX0) (name := exN 1) hown [] ⟨0, 10, 13, 15⟩ [] (htab.trans rfl) (fun z hz => by cases hz) rfl (by decide) (hts _ q815) (va_Nw.use rfl (hW.nw 42 rfl)) h1 h2 h3 kk) (fun H locs L q11 hx1 hW => ?_)
      have hc12 : 0 < gN_ σ4 100 := Nat.lt_of_lt_of_le hc7 (hx1.2.1 100)
      have hcs := hcs.call hc9
      have hrm := hrm1
      have hx0 := hx0.trans hx1
      refine lv_astore (lv' := [(4, .ref q11)]) hx hb dX0_build_13 hl (by decide) rfl (fun ls hl => ?_)
      refine lv_iconst (v := 1) hx hb dX0_build_15 (by decide) ?_
      have hs := ww_S hs
      exact vx_ret (wa_i hx hb hr hlocks hx0 hcs hW (congrArg Prod.fst hs) (congrArg Prod.snd hs) dX0_build_16)
    · have hs := ww_F hs hk10
      cases hs
  · have hs := ww_sR hs
    refine wz_ci (vx_runV (As := [.int a2, .int a3]) (rest := [.int (0 : Int32), .ref (L 100 0)]) ⟨hx, hb, hml, hown, hts⟩ (c_X1_build g hgm l L σ a2 a3 hst _ _ hc1) (cwV 2 hts (lw_V q1237 q1238 q1239 q111 q1240) rfl rfl rfl hd_X1_build ⟨(Nat.le_of_ble_eq_true rfl), (Nat.le_of_ble_eq_true rfl)⟩) (ww_preV hW (pr_st (hW.rd hgm) (Nat.le_of_ble_eq_true rfl)) (obv_0 rfl) rfl) rfl rfl hl.1 rfl (lv_room (Nat.le_of_ble_eq_true rfl)) dX0_build_5 hrm1) hW (fun H locs L hx1 hW => ?_)
    have hc13 : 0 < gN_ σ4 100 := Nat.lt_of_lt_of_le hc7 (hx1.2.1 100)
    have hcs := hcs.call hc9
    have hrm := hrm1
    refine ww_stk (st1 := [.int v6, .int (0 : Int32), .ref (L 100 0)]) (by rw [hx1.at hp8 (by decide)]) ?_
    have hx0 := hx0.trans hx1
    refine lv_i2l hx hb dX0_build_8 rfl ?_
    obtain ⟨hc14, hs⟩ := ww_chk hs
    obtain ⟨σ15, e16, hs⟩ := ww_let hs
    refine ww_last hx hb hW hc14 (j := (0 : Int32)) rfl dX0_build_9 (fun H locs hW => ?_)
    have hW : wv g L σ15 s H locs := by rw [e16]; exact hW
    obtain ⟨hx0, hcs⟩ := lx_s (σ1 := σ15) hx0 hcs (by rw [e16]; exact kp_O)
    have hc17 : 0 < gN_ σ15 100 := by rw [e16]; exact hc13
    refine lv_goto (tgt := 17) hx hb dX0_build_10 (by decide) ?_
    refine lv_iconst (v := 0) hx hb dX0_build_17 (by decide) ?_
    have hs := ww_S hs
    exact vx_ret (wa_i hx hb hr hlocks hx0 hcs hW (congrArg Prod.fst hs) (congrArg Prod.snd hs) dX0_build_18)
set_option maxHeartbeats 4000000 in
theorem c_X0_debt (g : wg_T) (hgm : gm g = true) (l : Launch) (L : ly_T) (σ : st_T) (a2 : Int32) (hst : l.stackTraces = false) (r_ : Int32) (σ_ : st_T) (hs : m_X0_debt σ a2 = some (r_, σ_)) : AI g l yX0_debt (wsW_ yX0_debt cX0_debt 4 (some .int) [(0, 9, 12, 15)]) 10 181 [.ref (L 1 0), .int a2, .ref (L 100 0)] L σ r_ σ_ := by
  refine hbody.metN (by decide) (Nat.le_of_ble_eq_true rfl) ?_
  intro p e s m args below meth c ls hx hb hr hml hlocks hts hown hnm htab hW hl
  have hown : s.vm.findClass RX0 = some m.cls := hown
  obtain ⟨L0, hL0⟩ : ∃ L0, L0 = L := ⟨_, rfl⟩
  obtain ⟨σ0, hσ0⟩ : ∃ σ0, σ0 = σ := ⟨_, rfl⟩
  rw [← hσ0, ← hL0]
  have hx0 : lext L0 σ0 L σ := by rw [hL0, hσ0]; exact lext.refl
  have hcs : bk σ0 σ 0 0 := bk.start hσ0
  have hrm : 0 ≤ cu_ σ_ - cu_ σ0 ∧ 0 ≤ su_ σ_ - su_ σ0 := ⟨Nat.zero_le _, Nat.zero_le _⟩
  have hl : lv_has ls 4 [(0, .ref (L 1 0)), (1, .int a2), (2, .ref (L 100 0))] := hl
  unfold m_X0_debt at hs
  refine lv_aload_n hx hb dX0_debt_0 rfl (lv_at hl 2 rfl) ?_
  refine lv_iconst (v := 0) hx hb dX0_debt_1 (by decide) ?_
  refine lv_aload_n hx hb dX0_debt_2 rfl (lv_at hl 0 rfl) ?_
  refine lv_iload_n hx hb dX0_debt_3 rfl (lv_at hl 1 rfl) ?_
  obtain ⟨o3, hc1, hs⟩ := ww_bnd hs
  rcases o3 with k4 | v5
  · have hs := ww_sL hs
    by_cases hk6 : k4 = 1
    · have hs := ww_T hs hk6
      rw [hk6] at hc1
      obtain ⟨σ8, e9, hs⟩ := ww_let hs
      obtain ⟨hs, hck⟩ := ww_ck2 hs
      have hrm1 := hcs.room (σ1 := σ8) (a := 1) (b := 6) (by rw [e9]; rfl) (by rw [e9]; rfl) hck
      refine ww_catN (hpc := 12) (vx_runV (As := [.int a2]) (rest := [.int (0 : Int32), .ref (L 100 0)]) ⟨hx, hb, hml, hown, hts⟩ (c_X1_debt g hgm l L σ a2 hst _ hc1) (cwV 1 hts (lw_V q1250 q1251 q1252 q111 q1253) rfl rfl rfl hd_X1_debt ⟨(Nat.le_of_ble_eq_true rfl), (Nat.le_of_ble_eq_true rfl)⟩) (ww_preV hW (pr_st (hW.rd hgm) (Nat.le_of_ble_eq_true rfl)) (obv_0 rfl) rfl) rfl rfl hl.1 rfl (lv_room (Nat.le_of_ble_eq_true rfl)) dX0_debt_4 hrm1) no_i hW (fun H1 locs1 q ce cells1 slots1 h1 h2 h3 kk => vx_catch (own := RX0) (name := exN 1) hown [] ⟨0, 9, 12, 15⟩ [] (htab.trans rfl) (fun z hz => by cases hz) rfl (by decide) (hts _ q815) (va_Nw.use rfl (hW.nw 42 rfl)) h1 h2 h3 kk) (fun H locs q7 hW => ?_)
      rw [← e9] at hW
      have hx0 : lext L0 σ0 L σ8 := by rw [e9]; exact hx0.trans lext_bX
      have hcs := hcs.more (σ1 := σ8) (a := 1) (b := 6) (by rw [e9]; rfl) (by rw [e9]; rfl)
      have hrm := hrm1
      refine lv_astore_n (lv' := [(3, .ref q7), (0, .ref (L 1 0)), (1, .int a2), (2, .ref (L 100 0))]) hx hb dX0_debt_12 rfl hl (by decide) rfl (fun ls hl => ?_)
      refine lv_iconst (v := 1) hx hb dX0_debt_13 (by decide) ?_
      have hs := ww_S hs
      exact vx_ret (wa_i hx hb hr hlocks hx0 hcs hW (congrArg Prod.fst hs) (congrArg Prod.snd hs) dX0_debt_14)
    · have hs := ww_F hs hk6
      cases hs
  · have hs := ww_sR hs
    refine ww_xi0 (vx_runV (As := [.int a2]) (rest := [.int (0 : Int32), .ref (L 100 0)]) ⟨hx, hb, hml, hown, hts⟩ (c_X1_debt g hgm l L σ a2 hst _ hc1) (cwV 1 hts (lw_V q1250 q1251 q1252 q111 q1253) rfl rfl rfl hd_X1_debt ⟨(Nat.le_of_ble_eq_true rfl), (Nat.le_of_ble_eq_true rfl)⟩) (ww_preV hW (pr_st (hW.rd hgm) (Nat.le_of_ble_eq_true rfl)) (obv_0 rfl) rfl) rfl rfl hl.1 rfl (lv_room (Nat.le_of_ble_eq_true rfl)) dX0_debt_4 hrm) hW (fun H locs hW => ?_)
    refine lv_i2l hx hb dX0_debt_7 rfl ?_
    obtain ⟨hc10, hs⟩ := ww_chk hs
    obtain ⟨σ11, e12, hs⟩ := ww_let hs
    refine ww_last hx hb hW hc10 (j := (0 : Int32)) rfl dX0_debt_8 (fun H locs hW => ?_)
    have hW : wv g L σ11 s H locs := by rw [e12]; exact hW
    obtain ⟨hx0, hcs⟩ := lx_s (σ1 := σ11) hx0 hcs (by rw [e12]; exact kp_O)
    refine lv_goto (tgt := 15) hx hb dX0_debt_9 (by decide) ?_
    refine lv_iconst (v := 0) hx hb dX0_debt_15 (by decide) ?_
    have hs := ww_S hs
    exact vx_ret (wa_i hx hb hr hlocks hx0 hcs hW (congrArg Prod.fst hs) (congrArg Prod.snd hs) dX0_debt_16)
set_option maxHeartbeats 4000000 in
theorem c_X0_watch (g : wg_T) (hgm : gm g = true) (l : Launch) (L : ly_T) (σ : st_T) (a2 : Int32) (a3 : Int32) (hst : l.stackTraces = false) (r_ : Int32) (σ_ : st_T) (hs : m_X0_watch σ a2 a3 = some (r_, σ_)) : AI g l yX0_watch (wsW_ yX0_watch cX0_watch 5 (some .int) [(0, 10, 13, 13), (0, 10, 17, 15)]) 11 202 [.ref (L 1 0), .int a2, .int a3, .ref (L 100 0)] L σ r_ σ_ := by
  refine hbody.metN (by decide) (Nat.le_of_ble_eq_true rfl) ?_
  intro p e s m args below meth c ls hx hb hr hml hlocks hts hown hnm htab hW hl
  have hown : s.vm.findClass RX0 = some m.cls := hown
  obtain ⟨L0, hL0⟩ : ∃ L0, L0 = L := ⟨_, rfl⟩
  obtain ⟨σ0, hσ0⟩ : ∃ σ0, σ0 = σ := ⟨_, rfl⟩
  rw [← hσ0, ← hL0]
  have hx0 : lext L0 σ0 L σ := by rw [hL0, hσ0]; exact lext.refl
  have hcs : bk σ0 σ 0 0 := bk.start hσ0
  have hrm : 0 ≤ cu_ σ_ - cu_ σ0 ∧ 0 ≤ su_ σ_ - su_ σ0 := ⟨Nat.zero_le _, Nat.zero_le _⟩
  have hl : lv_has ls 5 [(0, .ref (L 1 0)), (1, .int a2), (2, .int a3), (3, .ref (L 100 0))] := hl
  unfold m_X0_watch at hs
  refine lv_aload_n hx hb dX0_watch_0 rfl (lv_at hl 3 rfl) ?_
  refine lv_iconst (v := 0) hx hb dX0_watch_1 (by decide) ?_
  refine lv_aload_n hx hb dX0_watch_2 rfl (lv_at hl 0 rfl) ?_
  refine lv_iload_n hx hb dX0_watch_3 rfl (lv_at hl 1 rfl) ?_
  refine lv_iload_n hx hb dX0_watch_4 rfl (lv_at hl 2 rfl) ?_
  obtain ⟨o3, σ4, hc1, hs⟩ := ww_bn2 hs
  obtain ⟨hkp, hs⟩ := ww_pif hs
  obtain ⟨hx0, hcs⟩ := lx_s hx0 hcs hkp
  rcases o3 with k5 | v6
  · have hs := ww_sL hs
    by_cases hk7 : k5 = 0
    · have hs := ww_T hs hk7
      rw [hk7] at hc1
      obtain ⟨σ9, e10, hs⟩ := ww_let hs
      obtain ⟨hs, hck⟩ := ww_ck2 hs
      have hrm1 := hcs.room (σ1 := σ9) (a := 1) (b := 6) (by rw [e10]; rfl) (by rw [e10]; rfl) hck
      refine ww_catN (hpc := 13) (vx_runV (As := [.int a2, .int a3]) (rest := [.int (0 : Int32), .ref (L 100 0)]) ⟨hx, hb, hml, hown, hts⟩ (c_X1_watch_2 g hgm l L σ a2 a3 hst _ _ hc1) (cwV 2 hts (lw_V q1257 q1258 q1259 q111 q1260) rfl rfl rfl hd_X1_watch_2 ⟨(Nat.le_of_ble_eq_true rfl), (Nat.le_of_ble_eq_true rfl)⟩) (ww_preV hW (pr_st (hW.rd hgm) (Nat.le_of_ble_eq_true rfl)) (obv_0 rfl) rfl) rfl rfl hl.1 rfl (lv_room (Nat.le_of_ble_eq_true rfl)) dX0_watch_5 hrm1) no_i hW (fun H1 locs1 q ce cells1 slots1 h1 h2 h3 kk => vx_catch (own := RX0) (name := exN 0) hown [] ⟨0, 10, 13, 13⟩ [⟨0, 10, 17, 15⟩] (htab.trans rfl) (fun z hz => by cases hz) rfl (by decide) (hts _ q737) (va_Nw.use rfl (hW.nw 41 rfl)) h1 h2 h3 kk) (fun H locs q8 hW => ?_)
      rw [← e10] at hW
      have hx0 : lext L0 σ0 L σ9 := by rw [e10]; exact hx0.trans lext_bX
      have hcs := hcs.more (σ1 := σ9) (a := 1) (b := 6) (by rw [e10]; rfl) (by rw [e10]; rfl)
      have hrm := hrm1
      refine lv_astore (lv' := [(4, .ref q8), (0, .ref (L 1 0)), (1, .int a2), (2, .int a3), (3, .ref (L 100 0))]) hx hb dX0_watch_13 hl (by decide) rfl (fun ls hl => ?_)
      refine lv_iconst (v := 1) hx hb dX0_watch_15 (by decide) ?_
      have hs := ww_S hs
      exact vx_ret (wa_i hx hb hr hlocks hx0 hcs hW (congrArg Prod.fst hs) (congrArg Prod.snd hs) dX0_watch_16)
    · have hs := ww_F hs hk7
      by_cases hk11 : k5 = 1
      · have hs := ww_T hs hk11
        rw [hk11] at hc1
        obtain ⟨σ13, e14, hs⟩ := ww_let hs
        obtain ⟨hs, hck⟩ := ww_ck2 hs
        have hrm1 := hcs.room (σ1 := σ13) (a := 1) (b := 6) (by rw [e14]; rfl) (by rw [e14]; rfl) hck
        refine ww_catN (hpc := 17) (vx_runV (As := [.int a2, .int a3]) (rest := [.int (0 : Int32), .ref (L 100 0)]) ⟨hx, hb, hml, hown, hts⟩ (c_X1_watch_2 g hgm l L σ a2 a3 hst _ _ hc1) (cwV 2 hts (lw_V q1257 q1258 q1259 q111 q1260) rfl rfl rfl hd_X1_watch_2 ⟨(Nat.le_of_ble_eq_true rfl), (Nat.le_of_ble_eq_true rfl)⟩) (ww_preV hW (pr_st (hW.rd hgm) (Nat.le_of_ble_eq_true rfl)) (obv_0 rfl) rfl) rfl rfl hl.1 rfl (lv_room (Nat.le_of_ble_eq_true rfl)) dX0_watch_5 hrm1) no_i hW (fun H1 locs1 q ce cells1 slots1 h1 h2 h3 kk => vx_catch (own := RX0) (name := exN 1) hown [⟨0, 10, 13, 13⟩] ⟨0, 10, 17, 15⟩ [] (htab.trans rfl) (fun z hz => by simp only [List.mem_cons, List.not_mem_nil, or_false] at hz; rcases hz with rfl <;> first | exact Or.inr ⟨by decide, _, hts _ q737, hW.1.2.2.2.2.2.2.2.2.2.2.2.2.2.2.2 1 0 (by decide) (by decide) (by decide)⟩) rfl (by decide) (hts _ q815) (va_Nw.use rfl (hW.nw 42 rfl)) h1 h2 h3 kk) (fun H locs q12 hW => ?_)
        rw [← e14] at hW
        have hx0 : lext L0 σ0 L σ13 := by rw [e14]; exact hx0.trans lext_bX
        have hcs := hcs.more (σ1 := σ13) (a := 1) (b := 6) (by rw [e14]; rfl) (by rw [e14]; rfl)
        have hrm := hrm1
        refine lv_astore (lv' := [(4, .ref q12), (0, .ref (L 1 0)), (1, .int a2), (2, .int a3), (3, .ref (L 100 0))]) hx hb dX0_watch_17 hl (by decide) rfl (fun ls hl => ?_)
        refine lv_iconst (v := 2) hx hb dX0_watch_19 (by decide) ?_
        have hs := ww_S hs
        exact vx_ret (wa_i hx hb hr hlocks hx0 hcs hW (congrArg Prod.fst hs) (congrArg Prod.snd hs) dX0_watch_20)
      · have hs := ww_F hs hk11
        cases hs
  · have hs := ww_sR hs
    refine ww_xi0 (vx_runV (As := [.int a2, .int a3]) (rest := [.int (0 : Int32), .ref (L 100 0)]) ⟨hx, hb, hml, hown, hts⟩ (c_X1_watch_2 g hgm l L σ a2 a3 hst _ _ hc1) (cwV 2 hts (lw_V q1257 q1258 q1259 q111 q1260) rfl rfl rfl hd_X1_watch_2 ⟨(Nat.le_of_ble_eq_true rfl), (Nat.le_of_ble_eq_true rfl)⟩) (ww_preV hW (pr_st (hW.rd hgm) (Nat.le_of_ble_eq_true rfl)) (obv_0 rfl) rfl) rfl rfl hl.1 rfl (lv_room (Nat.le_of_ble_eq_true rfl)) dX0_watch_5 hrm) hW (fun H locs hW => ?_)
    refine lv_i2l hx hb dX0_watch_8 rfl ?_
    obtain ⟨hc15, hs⟩ := ww_chk hs
    obtain ⟨σ16, e17, hs⟩ := ww_let hs
    refine ww_last hx hb hW hc15 (j := (0 : Int32)) rfl dX0_watch_9 (fun H locs hW => ?_)
    have hW : wv g L σ16 s H locs := by rw [e17]; exact hW
    obtain ⟨hx0, hcs⟩ := lx_s (σ1 := σ16) hx0 hcs (by rw [e17]; exact kp_O)
    refine lv_goto (tgt := 21) hx hb dX0_watch_10 (by decide) ?_
    refine lv_iconst (v := 0) hx hb dX0_watch_21 (by decide) ?_
    have hs := ww_S hs
    exact vx_ret (wa_i hx hb hr hlocks hx0 hcs hW (congrArg Prod.fst hs) (congrArg Prod.snd hs) dX0_watch_22)
set_option maxHeartbeats 4000000 in
theorem c_X0_watched (g : wg_T) (hgm : gm g = true) (l : Launch) (L : ly_T) (σ : st_T) (a2 : Int32) (hst : l.stackTraces = false) (r_ : Int32) (σ_ : st_T) (hs : m_X0_watched σ a2 = some (r_, σ_)) : AI g l yX0_watched (wsW_ yX0_watched cX0_watched 4 (some .int) [(0, 9, 12, 15)]) 11 201 [.ref (L 1 0), .int a2, .ref (L 100 0)] L σ r_ σ_ := by
  refine hbody.metN (by decide) (Nat.le_of_ble_eq_true rfl) ?_
  intro p e s m args below meth c ls hx hb hr hml hlocks hts hown hnm htab hW hl
  have hown : s.vm.findClass RX0 = some m.cls := hown
  obtain ⟨L0, hL0⟩ : ∃ L0, L0 = L := ⟨_, rfl⟩
  obtain ⟨σ0, hσ0⟩ : ∃ σ0, σ0 = σ := ⟨_, rfl⟩
  rw [← hσ0, ← hL0]
  have hx0 : lext L0 σ0 L σ := by rw [hL0, hσ0]; exact lext.refl
  have hcs : bk σ0 σ 0 0 := bk.start hσ0
  have hrm : 0 ≤ cu_ σ_ - cu_ σ0 ∧ 0 ≤ su_ σ_ - su_ σ0 := ⟨Nat.zero_le _, Nat.zero_le _⟩
  have hl : lv_has ls 4 [(0, .ref (L 1 0)), (1, .int a2), (2, .ref (L 100 0))] := hl
  unfold m_X0_watched at hs
  refine lv_aload_n hx hb dX0_watched_0 rfl (lv_at hl 2 rfl) ?_
  refine lv_iconst (v := 0) hx hb dX0_watched_1 (by decide) ?_
  refine lv_aload_n hx hb dX0_watched_2 rfl (lv_at hl 0 rfl) ?_
  refine lv_iload_n hx hb dX0_watched_3 rfl (lv_at hl 1 rfl) ?_
  obtain ⟨o3, hc1, hs⟩ := ww_bnd hs
  rcases o3 with k4 | v5
  · have hs := ww_sL hs
    by_cases hk6 : k4 = 1
    · have hs := ww_T hs hk6
      rw [hk6] at hc1
      obtain ⟨σ8, e9, hs⟩ := ww_let hs
      obtain ⟨hs, hck⟩ := ww_ck2 hs
      have hrm1 := hcs.room (σ1 := σ8) (a := 1) (b := 6) (by rw [e9]; rfl) (by rw [e9]; rfl) hck
      refine ww_catN (hpc := 12) (vx_runV (As := [.int a2]) (rest := [.int (0 : Int32), .ref (L 100 0)]) ⟨hx, hb, hml, hown, hts⟩ (c_X1_watched g hgm l L σ a2 hst _ hc1) (cwV 1 hts (lw_V q1264 q1265 q1266 q111 q1267) rfl rfl rfl hd_X1_watched ⟨(Nat.le_of_ble_eq_true rfl), (Nat.le_of_ble_eq_true rfl)⟩) (ww_preV hW (pr_st (hW.rd hgm) (Nat.le_of_ble_eq_true rfl)) (obv_0 rfl) rfl) rfl rfl hl.1 rfl (lv_room (Nat.le_of_ble_eq_true rfl)) dX0_watched_4 hrm1) no_i hW (fun H1 locs1 q ce cells1 slots1 h1 h2 h3 kk => vx_catch (own := RX0) (name := exN 1) hown [] ⟨0, 9, 12, 15⟩ [] (htab.trans rfl) (fun z hz => by cases hz) rfl (by decide) (hts _ q815) (va_Nw.use rfl (hW.nw 42 rfl)) h1 h2 h3 kk) (fun H locs q7 hW => ?_)
      rw [← e9] at hW
      have hx0 : lext L0 σ0 L σ8 := by rw [e9]; exact hx0.trans lext_bX
      have hcs := hcs.more (σ1 := σ8) (a := 1) (b := 6) (by rw [e9]; rfl) (by rw [e9]; rfl)
      have hrm := hrm1
      refine lv_astore_n (lv' := [(3, .ref q7), (0, .ref (L 1 0)), (1, .int a2), (2, .ref (L 100 0))]) hx hb dX0_watched_12 rfl hl (by decide) rfl (fun ls hl => ?_)
      refine lv_iconst (v := 1) hx hb dX0_watched_13 (by decide) ?_
      have hs := ww_S hs
      exact vx_ret (wa_i hx hb hr hlocks hx0 hcs hW (congrArg Prod.fst hs) (congrArg Prod.snd hs) dX0_watched_14)
    · have hs := ww_F hs hk6
      cases hs
  · have hs := ww_sR hs
    refine ww_xi0 (vx_runV (As := [.int a2]) (rest := [.int (0 : Int32), .ref (L 100 0)]) ⟨hx, hb, hml, hown, hts⟩ (c_X1_watched g hgm l L σ a2 hst _ hc1) (cwV 1 hts (lw_V q1264 q1265 q1266 q111 q1267) rfl rfl rfl hd_X1_watched ⟨(Nat.le_of_ble_eq_true rfl), (Nat.le_of_ble_eq_true rfl)⟩) (ww_preV hW (pr_st (hW.rd hgm) (Nat.le_of_ble_eq_true rfl)) (obv_0 rfl) rfl) rfl rfl hl.1 rfl (lv_room (Nat.le_of_ble_eq_true rfl)) dX0_watched_4 hrm) hW (fun H locs hW => ?_)
    refine lv_i2l hx hb dX0_watched_7 rfl ?_
    obtain ⟨hc10, hs⟩ := ww_chk hs
    obtain ⟨σ11, e12, hs⟩ := ww_let hs
    refine ww_last hx hb hW hc10 (j := (0 : Int32)) rfl dX0_watched_8 (fun H locs hW => ?_)
    have hW : wv g L σ11 s H locs := by rw [e12]; exact hW
    obtain ⟨hx0, hcs⟩ := lx_s (σ1 := σ11) hx0 hcs (by rw [e12]; exact kp_O)
    refine lv_goto (tgt := 15) hx hb dX0_watched_9 (by decide) ?_
    refine lv_iconst (v := 0) hx hb dX0_watched_15 (by decide) ?_
    have hs := ww_S hs
    exact vx_ret (wa_i hx hb hr hlocks hx0 hcs hW (congrArg Prod.fst hs) (congrArg Prod.snd hs) dX0_watched_16)
set_option maxHeartbeats 4000000 in
theorem c_X0_post (g : wg_T) (hgm : gm g = true) (l : Launch) (L : ly_T) (σ : st_T) (a2 : Int32) (a3 : Int32) (hst : l.stackTraces = false) (r_ : Int32) (σ_ : st_T) (hs : m_X0_post σ a2 a3 = some (r_, σ_)) : AI g l yX0_post (wsW_ yX0_post cX0_post 5 (some .int) [(0, 10, 13, 15)]) 10 261 [.ref (L 1 0), .int a2, .int a3, .ref (L 100 0)] L σ r_ σ_ := by
  refine hbody.metN (by decide) (Nat.le_of_ble_eq_true rfl) ?_
  intro p e s m args below meth c ls hx hb hr hml hlocks hts hown hnm htab hW hl
  have hown : s.vm.findClass RX0 = some m.cls := hown
  obtain ⟨L0, hL0⟩ : ∃ L0, L0 = L := ⟨_, rfl⟩
  obtain ⟨σ0, hσ0⟩ : ∃ σ0, σ0 = σ := ⟨_, rfl⟩
  rw [← hσ0, ← hL0]
  have hx0 : lext L0 σ0 L σ := by rw [hL0, hσ0]; exact lext.refl
  have hcs : bk σ0 σ 0 0 := bk.start hσ0
  have hrm : 0 ≤ cu_ σ_ - cu_ σ0 ∧ 0 ≤ su_ σ_ - su_ σ0 := ⟨Nat.zero_le _, Nat.zero_le _⟩
  have hl : lv_has ls 5 [(0, .ref (L 1 0)), (1, .int a2), (2, .int a3), (3, .ref (L 100 0))] := hl
  unfold m_X0_post at hs
  refine lv_aload_n hx hb dX0_post_0 rfl (lv_at hl 3 rfl) ?_
  refine lv_iconst (v := 0) hx hb dX0_post_1 (by decide) ?_
  refine lv_aload_n hx hb dX0_post_2 rfl (lv_at hl 0 rfl) ?_
  refine lv_iload_n hx hb dX0_post_3 rfl (lv_at hl 1 rfl) ?_
  refine lv_iload_n hx hb dX0_post_4 rfl (lv_at hl 2 rfl) ?_
  obtain ⟨o3, σ4, hc1, hs⟩ := ww_bn2 hs
  obtain ⟨hkp, hs⟩ := ww_pif hs
  obtain ⟨hx0, hcs⟩ := lx_s hx0 hcs hkp
  rcases o3 with k5 | v6
  · have hs := ww_sL hs
    by_cases hk7 : k5 = 1
    · have hs := ww_T hs hk7
      rw [hk7] at hc1
      obtain ⟨σ9, e10, hs⟩ := ww_let hs
      obtain ⟨hs, hck⟩ := ww_ck2 hs
      have hrm1 := hcs.room (σ1 := σ9) (a := 1) (b := 6) (by rw [e10]; rfl) (by rw [e10]; rfl) hck
      refine ww_catN (hpc := 13) (vx_runV (As := [.int a2, .int a3]) (rest := [.int (0 : Int32), .ref (L 100 0)]) ⟨hx, hb, hml, hown, hts⟩ (c_X1_post g hgm l L σ a2 a3 hst _ _ hc1) (cwV 2 hts (lw_V q1271 q1272 q1273 q111 q1274) rfl rfl rfl hd_X1_post ⟨(Nat.le_of_ble_eq_true rfl), (Nat.le_of_ble_eq_true rfl)⟩) (ww_preV hW (pr_st (hW.rd hgm) (Nat.le_of_ble_eq_true rfl)) (obv_0 rfl) rfl) rfl rfl hl.1 rfl (lv_room (Nat.le_of_ble_eq_true rfl)) dX0_post_5 hrm1) no_i hW (fun H1 locs1 q ce cells1 slots1 h1 h2 h3 kk => vx_catch (own := RX0) (name := exN 1) hown [] ⟨0, 10, 13, 15⟩ [] (htab.trans rfl) (fun z hz => by cases hz) rfl (by decide) (hts _ q815) (va_Nw.use rfl (hW.nw 42 rfl)) h1 h2 h3 kk) (fun H locs q8 hW => ?_)
      rw [← e10] at hW
      have hx0 : lext L0 σ0 L σ9 := by rw [e10]; exact hx0.trans lext_bX
      have hcs := hcs.more (σ1 := σ9) (a := 1) (b := 6) (by rw [e10]; rfl) (by rw [e10]; rfl)
      have hrm := hrm1
      refine lv_astore (lv' := [(4, .ref q8), (0, .ref (L 1 0)), (1, .int a2), (2, .int a3), (3, .ref (L 100 0))]) hx hb dX0_post_13 hl (by decide) rfl (fun ls hl => ?_)
      refine lv_iconst (v := 1) hx hb dX0_post_15 (by decide) ?_
      have hs := ww_S hs
      exact vx_ret (wa_i hx hb hr hlocks hx0 hcs hW (congrArg Prod.fst hs) (congrArg Prod.snd hs) dX0_post_16)
    · have hs := ww_F hs hk7
      cases hs
  · have hs := ww_sR hs
    refine ww_xi0 (vx_runV (As := [.int a2, .int a3]) (rest := [.int (0 : Int32), .ref (L 100 0)]) ⟨hx, hb, hml, hown, hts⟩ (c_X1_post g hgm l L σ a2 a3 hst _ _ hc1) (cwV 2 hts (lw_V q1271 q1272 q1273 q111 q1274) rfl rfl rfl hd_X1_post ⟨(Nat.le_of_ble_eq_true rfl), (Nat.le_of_ble_eq_true rfl)⟩) (ww_preV hW (pr_st (hW.rd hgm) (Nat.le_of_ble_eq_true rfl)) (obv_0 rfl) rfl) rfl rfl hl.1 rfl (lv_room (Nat.le_of_ble_eq_true rfl)) dX0_post_5 hrm) hW (fun H locs hW => ?_)
    refine lv_i2l hx hb dX0_post_8 rfl ?_
    obtain ⟨hc11, hs⟩ := ww_chk hs
    obtain ⟨σ12, e13, hs⟩ := ww_let hs
    refine ww_last hx hb hW hc11 (j := (0 : Int32)) rfl dX0_post_9 (fun H locs hW => ?_)
    have hW : wv g L σ12 s H locs := by rw [e13]; exact hW
    obtain ⟨hx0, hcs⟩ := lx_s (σ1 := σ12) hx0 hcs (by rw [e13]; exact kp_O)
    refine lv_goto (tgt := 17) hx hb dX0_post_10 (by decide) ?_
    refine lv_iconst (v := 0) hx hb dX0_post_17 (by decide) ?_
    have hs := ww_S hs
    exact vx_ret (wa_i hx hb hr hlocks hx0 hcs hW (congrArg Prod.fst hs) (congrArg Prod.snd hs) dX0_post_18)
set_option maxHeartbeats 4000000 in
theorem c_X0_join (g : wg_T) (hgm : gm g = true) (l : Launch) (L : ly_T) (σ : st_T) (a2 : Int32) (a3 : Int32) (hst : l.stackTraces = false) (r_ : Int32) (σ_ : st_T) (hs : m_X0_join σ a2 a3 = some (r_, σ_)) : AI g l yX0_join (wsW_ yX0_join cX0_join 5 (some .int) [(0, 10, 13, 15)]) 11 202 [.ref (L 1 0), .int a2, .int a3, .ref (L 100 0)] L σ r_ σ_ := by
  refine hbody.metN (by decide) (Nat.le_of_ble_eq_true rfl) ?_
  intro p e s m args below meth c ls hx hb hr hml hlocks hts hown hnm htab hW hl
  have hown : s.vm.findClass RX0 = some m.cls := hown
  obtain ⟨L0, hL0⟩ : ∃ L0, L0 = L := ⟨_, rfl⟩
  obtain ⟨σ0, hσ0⟩ : ∃ σ0, σ0 = σ := ⟨_, rfl⟩
  rw [← hσ0, ← hL0]
  have hx0 : lext L0 σ0 L σ := by rw [hL0, hσ0]; exact lext.refl
  have hcs : bk σ0 σ 0 0 := bk.start hσ0
  have hrm : 0 ≤ cu_ σ_ - cu_ σ0 ∧ 0 ≤ su_ σ_ - su_ σ0 := ⟨Nat.zero_le _, Nat.zero_le _⟩
  have hl : lv_has ls 5 [(0, .ref (L 1 0)), (1, .int a2), (2, .int a3), (3, .ref (L 100 0))] := hl
  unfold m_X0_join at hs
  refine lv_aload_n hx hb dX0_join_0 rfl (lv_at hl 3 rfl) ?_
  refine lv_iconst (v := 0) hx hb dX0_join_1 (by decide) ?_
  refine lv_aload_n hx hb dX0_join_2 rfl (lv_at hl 0 rfl) ?_
  refine lv_iload_n hx hb dX0_join_3 rfl (lv_at hl 1 rfl) ?_
  refine lv_iload_n hx hb dX0_join_4 rfl (lv_at hl 2 rfl) ?_
  obtain ⟨o3, σ4, hc1, hs⟩ := ww_bn2 hs
  obtain ⟨hkp, hs⟩ := ww_pif hs
  obtain ⟨hx0, hcs⟩ := lx_s hx0 hcs hkp
  rcases o3 with k5 | v6
  · have hs := ww_sL hs
    by_cases hk7 : k5 = 1
    · have hs := ww_T hs hk7
      rw [hk7] at hc1
      obtain ⟨σ9, e10, hs⟩ := ww_let hs
      obtain ⟨hs, hck⟩ := ww_ck2 hs
      have hrm1 := hcs.room (σ1 := σ9) (a := 1) (b := 6) (by rw [e10]; rfl) (by rw [e10]; rfl) hck
      refine ww_catN (hpc := 13) (vx_runV (As := [.int a2, .int a3]) (rest := [.int (0 : Int32), .ref (L 100 0)]) ⟨hx, hb, hml, hown, hts⟩ (c_X1_join g hgm l L σ a2 a3 hst _ _ hc1) (cwV 2 hts (lw_V q1284 q1285 q1286 q111 q1287) rfl rfl rfl hd_X1_join ⟨(Nat.le_of_ble_eq_true rfl), (Nat.le_of_ble_eq_true rfl)⟩) (ww_preV hW (pr_st (hW.rd hgm) (Nat.le_of_ble_eq_true rfl)) (obv_0 rfl) rfl) rfl rfl hl.1 rfl (lv_room (Nat.le_of_ble_eq_true rfl)) dX0_join_5 hrm1) no_i hW (fun H1 locs1 q ce cells1 slots1 h1 h2 h3 kk => vx_catch (own := RX0) (name := exN 1) hown [] ⟨0, 10, 13, 15⟩ [] (htab.trans rfl) (fun z hz => by cases hz) rfl (by decide) (hts _ q815) (va_Nw.use rfl (hW.nw 42 rfl)) h1 h2 h3 kk) (fun H locs q8 hW => ?_)
      rw [← e10] at hW
      have hx0 : lext L0 σ0 L σ9 := by rw [e10]; exact hx0.trans lext_bX
      have hcs := hcs.more (σ1 := σ9) (a := 1) (b := 6) (by rw [e10]; rfl) (by rw [e10]; rfl)
      have hrm := hrm1
      refine lv_astore (lv' := [(4, .ref q8), (0, .ref (L 1 0)), (1, .int a2), (2, .int a3), (3, .ref (L 100 0))]) hx hb dX0_join_13 hl (by decide) rfl (fun ls hl => ?_)
      refine lv_iconst (v := 1) hx hb dX0_join_15 (by decide) ?_
      have hs := ww_S hs
      exact vx_ret (wa_i hx hb hr hlocks hx0 hcs hW (congrArg Prod.fst hs) (congrArg Prod.snd hs) dX0_join_16)
    · have hs := ww_F hs hk7
      cases hs
  · have hs := ww_sR hs
    refine ww_xi0 (vx_runV (As := [.int a2, .int a3]) (rest := [.int (0 : Int32), .ref (L 100 0)]) ⟨hx, hb, hml, hown, hts⟩ (c_X1_join g hgm l L σ a2 a3 hst _ _ hc1) (cwV 2 hts (lw_V q1284 q1285 q1286 q111 q1287) rfl rfl rfl hd_X1_join ⟨(Nat.le_of_ble_eq_true rfl), (Nat.le_of_ble_eq_true rfl)⟩) (ww_preV hW (pr_st (hW.rd hgm) (Nat.le_of_ble_eq_true rfl)) (obv_0 rfl) rfl) rfl rfl hl.1 rfl (lv_room (Nat.le_of_ble_eq_true rfl)) dX0_join_5 hrm) hW (fun H locs hW => ?_)
    refine lv_i2l hx hb dX0_join_8 rfl ?_
    obtain ⟨hc11, hs⟩ := ww_chk hs
    obtain ⟨σ12, e13, hs⟩ := ww_let hs
    refine ww_last hx hb hW hc11 (j := (0 : Int32)) rfl dX0_join_9 (fun H locs hW => ?_)
    have hW : wv g L σ12 s H locs := by rw [e13]; exact hW
    obtain ⟨hx0, hcs⟩ := lx_s (σ1 := σ12) hx0 hcs (by rw [e13]; exact kp_O)
    refine lv_goto (tgt := 17) hx hb dX0_join_10 (by decide) ?_
    refine lv_iconst (v := 0) hx hb dX0_join_17 (by decide) ?_
    have hs := ww_S hs
    exact vx_ret (wa_i hx hb hr hlocks hx0 hcs hW (congrArg Prod.fst hs) (congrArg Prod.snd hs) dX0_join_18)
set_option maxHeartbeats 4000000 in
theorem c_X0_away (g : wg_T) (hgm : gm g = true) (l : Launch) (L : ly_T) (σ : st_T) (a2 : Int32) (a3 : Int32) (a4 : Int32) (hst : l.stackTraces = false) (r_ : Int32) (σ_ : st_T) (hs : m_X0_away σ a2 a3 a4 = some (r_, σ_)) : AI g l yX0_away (wsW_ yX0_away cX0_away 6 (some .int) [(0, 19, 22, 15)]) 11 204 [.ref (L 1 0), .int a2, .int a3, .int a4, .ref (L 100 0)] L σ r_ σ_ := by
  refine hbody.metN (by decide) (Nat.le_of_ble_eq_true rfl) ?_
  intro p e s m args below meth c ls hx hb hr hml hlocks hts hown hnm htab hW hl
  have hown : s.vm.findClass RX0 = some m.cls := hown
  obtain ⟨L0, hL0⟩ : ∃ L0, L0 = L := ⟨_, rfl⟩
  obtain ⟨σ0, hσ0⟩ : ∃ σ0, σ0 = σ := ⟨_, rfl⟩
  rw [← hσ0, ← hL0]
  have hx0 : lext L0 σ0 L σ := by rw [hL0, hσ0]; exact lext.refl
  have hcs : bk σ0 σ 0 0 := bk.start hσ0
  have hrm : 0 ≤ cu_ σ_ - cu_ σ0 ∧ 0 ≤ su_ σ_ - su_ σ0 := ⟨Nat.zero_le _, Nat.zero_le _⟩
  have hl : lv_has ls 6 [(0, .ref (L 1 0)), (1, .int a2), (2, .int a3), (3, .int a4), (4, .ref (L 100 0))] := hl
  unfold m_X0_away at hs
  have hL18 : ∀ (L : ly_T) (σ : st_T) (t1 : Int32) (t2 : Int64) (H : Heap) (locs : List Loc) (cells slots : Nat) (ls : Array Slot), lext L0 σ0 L σ → bk σ0 σ cells slots → (cells ≤ cu_ σ_ - cu_ σ0 ∧ slots ≤ su_ σ_ - su_ σ0) → wv g L σ s H locs → lv_has ls 6 [] → m_X0_away_L18 σ t1 t2 = some (r_, σ_) → W p l e (wrA 11 204 σ0 σ_) s m args below meth c H locs cells slots (vx_MQ below (wAi g L0 σ0 r_ σ_) nX_ args s (cu_ σ_ - cu_ σ0) (su_ σ_ - su_ σ0) (fun q => gz g ≤ q)) (F0 m 18 ls [.long t2, .int t1, .ref (L 100 0)]) := by
    intro L σ t1 t2 H locs cells slots ls hx0 hcs hrm hW hl hs
    unfold m_X0_away_L18 at hs
    obtain ⟨hc1, hs⟩ := ww_chk hs
    obtain ⟨hc2, hs⟩ := ww_chk hs
    obtain ⟨σ3, e4, hs⟩ := ww_let hs
    refine ww_last hx hb hW hc1 (j := t1) hc2 dX0_away_18 (fun H locs hW => ?_)
    have hW : wv g L σ3 s H locs := by rw [e4]; exact hW
    obtain ⟨hx0, hcs⟩ := lx_s (σ1 := σ3) hx0 hcs (by rw [e4]; exact kp_O)
    refine lv_goto (tgt := 26) hx hb dX0_away_19 (by decide) ?_
    refine lv_iconst (v := 0) hx hb dX0_away_26 (by decide) ?_
    have hs := ww_S hs
    exact vx_ret (wa_i hx hb hr hlocks hx0 hcs hW (congrArg Prod.fst hs) (congrArg Prod.snd hs) dX0_away_27)
  refine lv_aload hx hb dX0_away_0 (lv_at hl 4 rfl) ?_
  refine lv_iconst (v := 0) hx hb dX0_away_2 (by decide) ?_
  refine lv_aload_n hx hb dX0_away_3 rfl (lv_at hl 0 rfl) ?_
  refine lv_iload_n hx hb dX0_away_4 rfl (lv_at hl 1 rfl) ?_
  refine lv_iload_n hx hb dX0_away_5 rfl (lv_at hl 2 rfl) ?_
  refine lv_iload_n hx hb dX0_away_6 rfl (lv_at hl 3 rfl) ?_
  obtain ⟨o7, σ8, hc5, hs⟩ := ww_bn2 hs
  obtain ⟨hkp, hs⟩ := ww_pif hs
  obtain ⟨hx0, hcs⟩ := lx_s hx0 hcs hkp
  rcases o7 with k9 | v10
  · have hs := ww_sL hs
    by_cases hk11 : k9 = 1
    · have hs := ww_T hs hk11
      rw [hk11] at hc5
      obtain ⟨σ13, e14, hs⟩ := ww_let hs
      obtain ⟨hs, hck⟩ := ww_ck2 hs
      have hrm1 := hcs.room (σ1 := σ13) (a := 1) (b := 6) (by rw [e14]; rfl) (by rw [e14]; rfl) hck
      refine ww_catN (hpc := 22) (vx_runV (As := [.int a2, .int a3, .int a4]) (rest := [.int (0 : Int32), .ref (L 100 0)]) ⟨hx, hb, hml, hown, hts⟩ (c_X1_away g hgm l L σ a2 a3 a4 hst _ _ hc5) (cwV 3 hts (lw_V q1291 q1292 q1293 q111 q1294) rfl rfl rfl hd_X1_away ⟨(Nat.le_of_ble_eq_true rfl), (Nat.le_of_ble_eq_true rfl)⟩) (ww_preV hW (pr_st (hW.rd hgm) (Nat.le_of_ble_eq_true rfl)) (obv_0 rfl) rfl) rfl rfl hl.1 rfl (lv_room (Nat.le_of_ble_eq_true rfl)) dX0_away_7 hrm1) no_i hW (fun H1 locs1 q ce cells1 slots1 h1 h2 h3 kk => vx_catch (own := RX0) (name := exN 1) hown [] ⟨0, 19, 22, 15⟩ [] (htab.trans rfl) (fun z hz => by cases hz) rfl (by decide) (hts _ q815) (va_Nw.use rfl (hW.nw 42 rfl)) h1 h2 h3 kk) (fun H locs q12 hW => ?_)
      rw [← e14] at hW
      have hx0 : lext L0 σ0 L σ13 := by rw [e14]; exact hx0.trans lext_bX
      have hcs := hcs.more (σ1 := σ13) (a := 1) (b := 6) (by rw [e14]; rfl) (by rw [e14]; rfl)
      have hrm := hrm1
      refine lv_astore (lv' := [(5, .ref q12), (0, .ref (L 1 0)), (1, .int a2), (2, .int a3), (3, .int a4), (4, .ref (L 100 0))]) hx hb dX0_away_22 hl (by decide) rfl (fun ls hl => ?_)
      refine lv_iconst (v := 1) hx hb dX0_away_24 (by decide) ?_
      have hs := ww_S hs
      exact vx_ret (wa_i hx hb hr hlocks hx0 hcs hW (congrArg Prod.fst hs) (congrArg Prod.snd hs) dX0_away_25)
    · have hs := ww_F hs hk11
      cases hs
  · have hs := ww_sR hs
    refine ww_xi0 (vx_runV (As := [.int a2, .int a3, .int a4]) (rest := [.int (0 : Int32), .ref (L 100 0)]) ⟨hx, hb, hml, hown, hts⟩ (c_X1_away g hgm l L σ a2 a3 a4 hst _ _ hc5) (cwV 3 hts (lw_V q1291 q1292 q1293 q111 q1294) rfl rfl rfl hd_X1_away ⟨(Nat.le_of_ble_eq_true rfl), (Nat.le_of_ble_eq_true rfl)⟩) (ww_preV hW (pr_st (hW.rd hgm) (Nat.le_of_ble_eq_true rfl)) (obv_0 rfl) rfl) rfl rfl hl.1 rfl (lv_room (Nat.le_of_ble_eq_true rfl)) dX0_away_7 hrm) hW (fun H locs hW => ?_)
    refine lv_if_eq (tgt := 17) hx hb dX0_away_10 (by decide) (fun hc15 => ?_) (fun hc15 => ?_)
    · have hs := ww_T hs hc15
      refine lv_lconst (v := 0) hx hb dX0_away_17 (by decide) ?_
      exact hL18 L σ8 (0 : Int32) (0 : Int64) _ _ _ _ ls hx0 hcs hrm hW (lv_sub hl [] rfl) hs
    · have hs := ww_F hs hc15
      refine lv_lconst (v := 1) hx hb dX0_away_13 (by decide) ?_
      refine lv_goto (tgt := 18) hx hb dX0_away_14 (by decide) ?_
      exact hL18 L σ8 (0 : Int32) (1 : Int64) _ _ _ _ ls hx0 hcs hrm hW (lv_sub hl [] rfl) hs
set_option maxHeartbeats 4000000 in
theorem c_X0_rota (g : wg_T) (hgm : gm g = true) (l : Launch) (L : ly_T) (σ : st_T) (a2 : Int32) (a3 : Int32) (a4 : Int32) (a5 : Int32) (hst : l.stackTraces = false) (r_ : Int32) (σ_ : st_T) (hs : m_X0_rota σ a2 a3 a4 a5 = some (r_, σ_)) : AI g l yX0_rota (wsW_ yX0_rota cX0_rota 7 (some .int) [(0, 14, 17, 15)]) 31 845 [.ref (L 1 0), .int a2, .int a3, .int a4, .int a5, .ref (L 100 0)] L σ r_ σ_ := by
  refine hbody.metN (by decide) (Nat.le_of_ble_eq_true rfl) ?_
  intro p e s m args below meth c ls hx hb hr hml hlocks hts hown hnm htab hW hl
  have hown : s.vm.findClass RX0 = some m.cls := hown
  obtain ⟨L0, hL0⟩ : ∃ L0, L0 = L := ⟨_, rfl⟩
  obtain ⟨σ0, hσ0⟩ : ∃ σ0, σ0 = σ := ⟨_, rfl⟩
  rw [← hσ0, ← hL0]
  have hx0 : lext L0 σ0 L σ := by rw [hL0, hσ0]; exact lext.refl
  have hcs : bk σ0 σ 0 0 := bk.start hσ0
  have hrm : 0 ≤ cu_ σ_ - cu_ σ0 ∧ 0 ≤ su_ σ_ - su_ σ0 := ⟨Nat.zero_le _, Nat.zero_le _⟩
  have hl : lv_has ls 7 [(0, .ref (L 1 0)), (1, .int a2), (2, .int a3), (3, .int a4), (4, .int a5), (5, .ref (L 100 0))] := hl
  unfold m_X0_rota at hs
  refine lv_aload hx hb dX0_rota_0 (lv_at hl 5 rfl) ?_
  refine lv_iconst (v := 0) hx hb dX0_rota_2 (by decide) ?_
  refine lv_aload_n hx hb dX0_rota_3 rfl (lv_at hl 0 rfl) ?_
  refine lv_iload_n hx hb dX0_rota_4 rfl (lv_at hl 1 rfl) ?_
  refine lv_iload_n hx hb dX0_rota_5 rfl (lv_at hl 2 rfl) ?_
  refine lv_iload_n hx hb dX0_rota_6 rfl (lv_at hl 3 rfl) ?_
  refine lv_iload hx hb dX0_rota_7 (lv_at hl 4 rfl) ?_
  obtain ⟨o3, σ4, hc1, hs⟩ := ww_bn2 hs
  have hl : lv_has ls 7 [] := lv_sub hl [] rfl
  obtain ⟨hc7, hs⟩ := ww_chk hs
  have hp8 : pr σ 100 0 := (pr_dy hc7 rfl rfl)
  obtain ⟨hc9, hs⟩ := ww_chk hs
  obtain ⟨hs, hck⟩ := ww_ck2 hs
  have hrm1 := hcs.roomC hc9 hck
  rcases o3 with k5 | v6
  · have hs := ww_sL hs
    by_cases hk10 : k5 = 1
    · have hs := ww_T hs hk10
      rw [hk10] at hc1
      refine ww_catA (hpc := 17) (vx_runV (As := [.int a2, .int a3, .int a4, .int a5]) (rest := [.int (0 : Int32), .ref (L 100 0)]) ⟨hx, hb, hml, hown, hts⟩ (c_X1_rota g hgm l L σ a2 a3 a4 a5 hst _ _ hc1) (cwV 4 hts (lw_V q1298 q1299 q1300 q111 q1301) rfl rfl rfl hd_X1_rota ⟨(Nat.le_of_ble_eq_true rfl), (Nat.le_of_ble_eq_true rfl)⟩) (ww_preV hW (pr_st (hW.rd hgm) (Nat.le_of_ble_eq_true rfl)) (obv_0 rfl) rfl) rfl rfl hl.1 rfl (lv_room (Nat.le_of_ble_eq_true rfl)) dX0_rota_9 hrm1) noA_i hW (fun H1 locs1 q ce cells1 slots1 h1 h2 h3 kk => vx_catch (own := RX0) (name := exN 1) hown [] ⟨0, 14, 17, 15⟩ [] (htab.trans rfl) (fun z hz => by cases hz) rfl (by decide) (hts _ q815) (va_Nw.use rfl (hW.nw 42 rfl)) h1 h2 h3 kk) (fun H locs L q11 hx1 hW => ?_)
      have hc12 : 0 < gN_ σ4 100 := Nat.lt_of_lt_of_le hc7 (hx1.2.1 100)
      have hcs := hcs.call hc9
      have hrm := hrm1
      have hx0 := hx0.trans hx1
      refine lv_astore (lv' := [(6, .ref q11)]) hx hb dX0_rota_17 hl (by decide) rfl (fun ls hl => ?_)
      refine lv_iconst (v := 1) hx hb dX0_rota_19 (by decide) ?_
      have hs := ww_S hs
      exact vx_ret (wa_i hx hb hr hlocks hx0 hcs hW (congrArg Prod.fst hs) (congrArg Prod.snd hs) dX0_rota_20)
    · have hs := ww_F hs hk10
      cases hs
  · have hs := ww_sR hs
    refine wz_ci (vx_runV (As := [.int a2, .int a3, .int a4, .int a5]) (rest := [.int (0 : Int32), .ref (L 100 0)]) ⟨hx, hb, hml, hown, hts⟩ (c_X1_rota g hgm l L σ a2 a3 a4 a5 hst _ _ hc1) (cwV 4 hts (lw_V q1298 q1299 q1300 q111 q1301) rfl rfl rfl hd_X1_rota ⟨(Nat.le_of_ble_eq_true rfl), (Nat.le_of_ble_eq_true rfl)⟩) (ww_preV hW (pr_st (hW.rd hgm) (Nat.le_of_ble_eq_true rfl)) (obv_0 rfl) rfl) rfl rfl hl.1 rfl (lv_room (Nat.le_of_ble_eq_true rfl)) dX0_rota_9 hrm1) hW (fun H locs L hx1 hW => ?_)
    have hc13 : 0 < gN_ σ4 100 := Nat.lt_of_lt_of_le hc7 (hx1.2.1 100)
    have hcs := hcs.call hc9
    have hrm := hrm1
    refine ww_stk (st1 := [.int v6, .int (0 : Int32), .ref (L 100 0)]) (by rw [hx1.at hp8 (by decide)]) ?_
    have hx0 := hx0.trans hx1
    refine lv_i2l hx hb dX0_rota_12 rfl ?_
    obtain ⟨hc14, hs⟩ := ww_chk hs
    obtain ⟨σ15, e16, hs⟩ := ww_let hs
    refine ww_last hx hb hW hc14 (j := (0 : Int32)) rfl dX0_rota_13 (fun H locs hW => ?_)
    have hW : wv g L σ15 s H locs := by rw [e16]; exact hW
    obtain ⟨hx0, hcs⟩ := lx_s (σ1 := σ15) hx0 hcs (by rw [e16]; exact kp_O)
    have hc17 : 0 < gN_ σ15 100 := by rw [e16]; exact hc13
    refine lv_goto (tgt := 21) hx hb dX0_rota_14 (by decide) ?_
    refine lv_iconst (v := 0) hx hb dX0_rota_21 (by decide) ?_
    have hs := ww_S hs
    exact vx_ret (wa_i hx hb hr hlocks hx0 hcs hW (congrArg Prod.fst hs) (congrArg Prod.snd hs) dX0_rota_22)
set_option maxHeartbeats 4000000 in
theorem c_X0_loads (g : wg_T) (hgm : gm g = true) (l : Launch) (L : ly_T) (σ : st_T) (a2 : Int32) (a3 : Int32) (hst : l.stackTraces = false) (r_ : Int32) (σ_ : st_T) (hs : m_X0_loads σ a2 a3 = some (r_, σ_)) : AI g l yX0_loads (wsW_ yX0_loads cX0_loads 5 (some .int) [(0, 10, 13, 15)]) 31 841 [.ref (L 1 0), .int a2, .int a3, .ref (L 100 0)] L σ r_ σ_ := by
  refine hbody.metN (by decide) (Nat.le_of_ble_eq_true rfl) ?_
  intro p e s m args below meth c ls hx hb hr hml hlocks hts hown hnm htab hW hl
  have hown : s.vm.findClass RX0 = some m.cls := hown
  obtain ⟨L0, hL0⟩ : ∃ L0, L0 = L := ⟨_, rfl⟩
  obtain ⟨σ0, hσ0⟩ : ∃ σ0, σ0 = σ := ⟨_, rfl⟩
  rw [← hσ0, ← hL0]
  have hx0 : lext L0 σ0 L σ := by rw [hL0, hσ0]; exact lext.refl
  have hcs : bk σ0 σ 0 0 := bk.start hσ0
  have hrm : 0 ≤ cu_ σ_ - cu_ σ0 ∧ 0 ≤ su_ σ_ - su_ σ0 := ⟨Nat.zero_le _, Nat.zero_le _⟩
  have hl : lv_has ls 5 [(0, .ref (L 1 0)), (1, .int a2), (2, .int a3), (3, .ref (L 100 0))] := hl
  unfold m_X0_loads at hs
  refine lv_aload_n hx hb dX0_loads_0 rfl (lv_at hl 3 rfl) ?_
  refine lv_iconst (v := 0) hx hb dX0_loads_1 (by decide) ?_
  refine lv_aload_n hx hb dX0_loads_2 rfl (lv_at hl 0 rfl) ?_
  refine lv_iload_n hx hb dX0_loads_3 rfl (lv_at hl 1 rfl) ?_
  refine lv_iload_n hx hb dX0_loads_4 rfl (lv_at hl 2 rfl) ?_
  obtain ⟨o3, σ4, hc1, hs⟩ := ww_bn2 hs
  have hl : lv_has ls 5 [] := lv_sub hl [] rfl
  obtain ⟨hc7, hs⟩ := ww_chk hs
  have hp8 : pr σ 100 0 := (pr_dy hc7 rfl rfl)
  obtain ⟨hc9, hs⟩ := ww_chk hs
  obtain ⟨hs, hck⟩ := ww_ck2 hs
  have hrm1 := hcs.roomC hc9 hck
  rcases o3 with k5 | v6
  · have hs := ww_sL hs
    by_cases hk10 : k5 = 1
    · have hs := ww_T hs hk10
      rw [hk10] at hc1
      refine ww_catA (hpc := 13) (vx_runV (As := [.int a2, .int a3]) (rest := [.int (0 : Int32), .ref (L 100 0)]) ⟨hx, hb, hml, hown, hts⟩ (c_X1_loads g hgm l L σ a2 a3 hst _ _ hc1) (cwV 2 hts (lw_V q1371 q1372 q1373 q111 q1374) rfl rfl rfl hd_X1_loads ⟨(Nat.le_of_ble_eq_true rfl), (Nat.le_of_ble_eq_true rfl)⟩) (ww_preV hW (pr_st (hW.rd hgm) (Nat.le_of_ble_eq_true rfl)) (obv_0 rfl) rfl) rfl rfl hl.1 rfl (lv_room (Nat.le_of_ble_eq_true rfl)) dX0_loads_5 hrm1) noA_i hW (fun H1 locs1 q ce cells1 slots1 h1 h2 h3 kk => vx_catch (own := RX0) (name := exN 1) hown [] ⟨0, 10, 13, 15⟩ [] (htab.trans rfl) (fun z hz => by cases hz) rfl (by decide) (hts _ q815) (va_Nw.use rfl (hW.nw 42 rfl)) h1 h2 h3 kk) (fun H locs L q11 hx1 hW => ?_)
      have hc12 : 0 < gN_ σ4 100 := Nat.lt_of_lt_of_le hc7 (hx1.2.1 100)
      have hcs := hcs.call hc9
      have hrm := hrm1
      have hx0 := hx0.trans hx1
      refine lv_astore (lv' := [(4, .ref q11)]) hx hb dX0_loads_13 hl (by decide) rfl (fun ls hl => ?_)
      refine lv_iconst (v := 1) hx hb dX0_loads_15 (by decide) ?_
      have hs := ww_S hs
      exact vx_ret (wa_i hx hb hr hlocks hx0 hcs hW (congrArg Prod.fst hs) (congrArg Prod.snd hs) dX0_loads_16)
    · have hs := ww_F hs hk10
      cases hs
  · have hs := ww_sR hs
    refine wz_ci (vx_runV (As := [.int a2, .int a3]) (rest := [.int (0 : Int32), .ref (L 100 0)]) ⟨hx, hb, hml, hown, hts⟩ (c_X1_loads g hgm l L σ a2 a3 hst _ _ hc1) (cwV 2 hts (lw_V q1371 q1372 q1373 q111 q1374) rfl rfl rfl hd_X1_loads ⟨(Nat.le_of_ble_eq_true rfl), (Nat.le_of_ble_eq_true rfl)⟩) (ww_preV hW (pr_st (hW.rd hgm) (Nat.le_of_ble_eq_true rfl)) (obv_0 rfl) rfl) rfl rfl hl.1 rfl (lv_room (Nat.le_of_ble_eq_true rfl)) dX0_loads_5 hrm1) hW (fun H locs L hx1 hW => ?_)
    have hc13 : 0 < gN_ σ4 100 := Nat.lt_of_lt_of_le hc7 (hx1.2.1 100)
    have hcs := hcs.call hc9
    have hrm := hrm1
    refine ww_stk (st1 := [.int v6, .int (0 : Int32), .ref (L 100 0)]) (by rw [hx1.at hp8 (by decide)]) ?_
    have hx0 := hx0.trans hx1
    refine lv_i2l hx hb dX0_loads_8 rfl ?_
    obtain ⟨hc14, hs⟩ := ww_chk hs
    obtain ⟨σ15, e16, hs⟩ := ww_let hs
    refine ww_last hx hb hW hc14 (j := (0 : Int32)) rfl dX0_loads_9 (fun H locs hW => ?_)
    have hW : wv g L σ15 s H locs := by rw [e16]; exact hW
    obtain ⟨hx0, hcs⟩ := lx_s (σ1 := σ15) hx0 hcs (by rw [e16]; exact kp_O)
    have hc17 : 0 < gN_ σ15 100 := by rw [e16]; exact hc13
    refine lv_goto (tgt := 17) hx hb dX0_loads_10 (by decide) ?_
    refine lv_iconst (v := 0) hx hb dX0_loads_17 (by decide) ?_
    have hs := ww_S hs
    exact vx_ret (wa_i hx hb hr hlocks hx0 hcs hW (congrArg Prod.fst hs) (congrArg Prod.snd hs) dX0_loads_18)
set_option maxHeartbeats 4000000 in
theorem c_X0_find (g : wg_T) (hgm : gm g = true) (l : Launch) (L : ly_T) (σ : st_T) (a2 : Int32) (a3 : Int32) (hst : l.stackTraces = false) (r_ : Int32) (σ_ : st_T) (hs : m_X0_find σ a2 a3 = some (r_, σ_)) : AI g l yX0_find (wsW_ yX0_find cX0_find 5 (some .int) [(0, 10, 13, 52), (0, 10, 17, 15)]) 17 523 [.ref (L 1 0), .int a2, .int a3, .ref (L 100 0)] L σ r_ σ_ := by
  refine hbody.metN (by decide) (Nat.le_of_ble_eq_true rfl) ?_
  intro p e s m args below meth c ls hx hb hr hml hlocks hts hown hnm htab hW hl
  have hown : s.vm.findClass RX0 = some m.cls := hown
  obtain ⟨L0, hL0⟩ : ∃ L0, L0 = L := ⟨_, rfl⟩
  obtain ⟨σ0, hσ0⟩ : ∃ σ0, σ0 = σ := ⟨_, rfl⟩
  rw [← hσ0, ← hL0]
  have hx0 : lext L0 σ0 L σ := by rw [hL0, hσ0]; exact lext.refl
  have hcs : bk σ0 σ 0 0 := bk.start hσ0
  have hrm : 0 ≤ cu_ σ_ - cu_ σ0 ∧ 0 ≤ su_ σ_ - su_ σ0 := ⟨Nat.zero_le _, Nat.zero_le _⟩
  have hl : lv_has ls 5 [(0, .ref (L 1 0)), (1, .int a2), (2, .int a3), (3, .ref (L 100 0))] := hl
  unfold m_X0_find at hs
  refine lv_aload_n hx hb dX0_find_0 rfl (lv_at hl 3 rfl) ?_
  refine lv_iconst (v := 0) hx hb dX0_find_1 (by decide) ?_
  refine lv_aload_n hx hb dX0_find_2 rfl (lv_at hl 0 rfl) ?_
  refine lv_iload_n hx hb dX0_find_3 rfl (lv_at hl 1 rfl) ?_
  refine lv_iload_n hx hb dX0_find_4 rfl (lv_at hl 2 rfl) ?_
  obtain ⟨o3, σ4, hc1, hs⟩ := ww_bn2 hs
  have hl : lv_has ls 5 [] := lv_sub hl [] rfl
  obtain ⟨hc7, hs⟩ := ww_chk hs
  have hp8 : pr σ 100 0 := (pr_dy hc7 rfl rfl)
  obtain ⟨hc9, hs⟩ := ww_chk hs
  obtain ⟨hs, hck⟩ := ww_ck2 hs
  have hrm1 := hcs.roomC hc9 hck
  rcases o3 with k5 | v6
  · have hs := ww_sL hs
    by_cases hk10 : k5 = 3
    · have hs := ww_T hs hk10
      rw [hk10] at hc1
      refine ww_catA (hpc := 13) (vx_runV (As := [.int a2, .int a3]) (rest := [.int (0 : Int32), .ref (L 100 0)]) ⟨hx, hb, hml, hown, hts⟩ (c_X1_find g hgm l L σ a2 a3 hst _ _ hc1) (cwV 2 hts (lw_V q1378 q1379 q1380 q111 q1381) rfl rfl rfl hd_X1_find ⟨(Nat.le_of_ble_eq_true rfl), (Nat.le_of_ble_eq_true rfl)⟩) (ww_preV hW (pr_st (hW.rd hgm) (Nat.le_of_ble_eq_true rfl)) (obv_0 rfl) rfl) rfl rfl hl.1 rfl (lv_room (Nat.le_of_ble_eq_true rfl)) dX0_find_5 hrm1) noA_i hW (fun H1 locs1 q ce cells1 slots1 h1 h2 h3 kk => vx_catch (own := RX0) (name := exN 3) hown [] ⟨0, 10, 13, 52⟩ [⟨0, 10, 17, 15⟩] (htab.trans rfl) (fun z hz => by cases hz) rfl (by decide) (hts _ q1186) (va_Nw.use rfl (hW.nw 55 rfl)) h1 h2 h3 kk) (fun H locs L q11 hx1 hW => ?_)
      have hc12 : 0 < gN_ σ4 100 := Nat.lt_of_lt_of_le hc7 (hx1.2.1 100)
      have hcs := hcs.call hc9
      have hrm := hrm1
      have hx0 := hx0.trans hx1
      refine lv_astore (lv' := [(4, .ref q11)]) hx hb dX0_find_13 hl (by decide) rfl (fun ls hl => ?_)
      refine lv_iconst (v := 1) hx hb dX0_find_15 (by decide) ?_
      have hs := ww_S hs
      exact vx_ret (wa_i hx hb hr hlocks hx0 hcs hW (congrArg Prod.fst hs) (congrArg Prod.snd hs) dX0_find_16)
    · have hs := ww_F hs hk10
      by_cases hk13 : k5 = 1
      · have hs := ww_T hs hk13
        rw [hk13] at hc1
        refine ww_catA (hpc := 17) (vx_runV (As := [.int a2, .int a3]) (rest := [.int (0 : Int32), .ref (L 100 0)]) ⟨hx, hb, hml, hown, hts⟩ (c_X1_find g hgm l L σ a2 a3 hst _ _ hc1) (cwV 2 hts (lw_V q1378 q1379 q1380 q111 q1381) rfl rfl rfl hd_X1_find ⟨(Nat.le_of_ble_eq_true rfl), (Nat.le_of_ble_eq_true rfl)⟩) (ww_preV hW (pr_st (hW.rd hgm) (Nat.le_of_ble_eq_true rfl)) (obv_0 rfl) rfl) rfl rfl hl.1 rfl (lv_room (Nat.le_of_ble_eq_true rfl)) dX0_find_5 hrm1) noA_i hW (fun H1 locs1 q ce cells1 slots1 h1 h2 h3 kk => vx_catch (own := RX0) (name := exN 1) hown [⟨0, 10, 13, 52⟩] ⟨0, 10, 17, 15⟩ [] (htab.trans rfl) (fun z hz => by simp only [List.mem_cons, List.not_mem_nil, or_false] at hz; rcases hz with rfl <;> first | exact Or.inr ⟨by decide, _, hts _ q1186, hW.1.2.2.2.2.2.2.2.2.2.2.2.2.2.2.2 1 3 (by decide) (by decide) (by decide)⟩) rfl (by decide) (hts _ q815) (va_Nw.use rfl (hW.nw 42 rfl)) h1 h2 h3 kk) (fun H locs L q14 hx1 hW => ?_)
        have hc15 : 0 < gN_ σ4 100 := Nat.lt_of_lt_of_le hc7 (hx1.2.1 100)
        have hcs := hcs.call hc9
        have hrm := hrm1
        have hx0 := hx0.trans hx1
        refine lv_astore (lv' := [(4, .ref q14)]) hx hb dX0_find_17 hl (by decide) rfl (fun ls hl => ?_)
        refine lv_iconst (v := 2) hx hb dX0_find_19 (by decide) ?_
        have hs := ww_S hs
        exact vx_ret (wa_i hx hb hr hlocks hx0 hcs hW (congrArg Prod.fst hs) (congrArg Prod.snd hs) dX0_find_20)
      · have hs := ww_F hs hk13
        cases hs
  · have hs := ww_sR hs
    refine wz_ci (vx_runV (As := [.int a2, .int a3]) (rest := [.int (0 : Int32), .ref (L 100 0)]) ⟨hx, hb, hml, hown, hts⟩ (c_X1_find g hgm l L σ a2 a3 hst _ _ hc1) (cwV 2 hts (lw_V q1378 q1379 q1380 q111 q1381) rfl rfl rfl hd_X1_find ⟨(Nat.le_of_ble_eq_true rfl), (Nat.le_of_ble_eq_true rfl)⟩) (ww_preV hW (pr_st (hW.rd hgm) (Nat.le_of_ble_eq_true rfl)) (obv_0 rfl) rfl) rfl rfl hl.1 rfl (lv_room (Nat.le_of_ble_eq_true rfl)) dX0_find_5 hrm1) hW (fun H locs L hx1 hW => ?_)
    have hc16 : 0 < gN_ σ4 100 := Nat.lt_of_lt_of_le hc7 (hx1.2.1 100)
    have hcs := hcs.call hc9
    have hrm := hrm1
    refine ww_stk (st1 := [.int v6, .int (0 : Int32), .ref (L 100 0)]) (by rw [hx1.at hp8 (by decide)]) ?_
    have hx0 := hx0.trans hx1
    refine lv_i2l hx hb dX0_find_8 rfl ?_
    obtain ⟨hc17, hs⟩ := ww_chk hs
    obtain ⟨σ18, e19, hs⟩ := ww_let hs
    refine ww_last hx hb hW hc17 (j := (0 : Int32)) rfl dX0_find_9 (fun H locs hW => ?_)
    have hW : wv g L σ18 s H locs := by rw [e19]; exact hW
    obtain ⟨hx0, hcs⟩ := lx_s (σ1 := σ18) hx0 hcs (by rw [e19]; exact kp_O)
    have hc20 : 0 < gN_ σ18 100 := by rw [e19]; exact hc16
    refine lv_goto (tgt := 21) hx hb dX0_find_10 (by decide) ?_
    refine lv_iconst (v := 0) hx hb dX0_find_21 (by decide) ?_
    have hs := ww_S hs
    exact vx_ret (wa_i hx hb hr hlocks hx0 hcs hW (congrArg Prod.fst hs) (congrArg Prod.snd hs) dX0_find_22)
set_option maxHeartbeats 4000000 in
theorem c_X0_harm (g : wg_T) (hgm : gm g = true) (l : Launch) (L : ly_T) (σ : st_T) (a2 : Int32) (a3 : Int32) (a4 : Int32) (a5 : Int32) (hst : l.stackTraces = false) (r_ : Int32) (σ_ : st_T) (hs : m_X0_harm σ a2 a3 a4 a5 = some (r_, σ_)) : AI g l yX0_harm (wsW_ yX0_harm cX0_harm 7 (some .int) [(0, 14, 17, 15)]) 11 207 [.ref (L 1 0), .int a2, .int a3, .int a4, .int a5, .ref (L 100 0)] L σ r_ σ_ := by
  refine hbody.metN (by decide) (Nat.le_of_ble_eq_true rfl) ?_
  intro p e s m args below meth c ls hx hb hr hml hlocks hts hown hnm htab hW hl
  have hown : s.vm.findClass RX0 = some m.cls := hown
  obtain ⟨L0, hL0⟩ : ∃ L0, L0 = L := ⟨_, rfl⟩
  obtain ⟨σ0, hσ0⟩ : ∃ σ0, σ0 = σ := ⟨_, rfl⟩
  rw [← hσ0, ← hL0]
  have hx0 : lext L0 σ0 L σ := by rw [hL0, hσ0]; exact lext.refl
  have hcs : bk σ0 σ 0 0 := bk.start hσ0
  have hrm : 0 ≤ cu_ σ_ - cu_ σ0 ∧ 0 ≤ su_ σ_ - su_ σ0 := ⟨Nat.zero_le _, Nat.zero_le _⟩
  have hl : lv_has ls 7 [(0, .ref (L 1 0)), (1, .int a2), (2, .int a3), (3, .int a4), (4, .int a5), (5, .ref (L 100 0))] := hl
  unfold m_X0_harm at hs
  refine lv_aload hx hb dX0_harm_0 (lv_at hl 5 rfl) ?_
  refine lv_iconst (v := 0) hx hb dX0_harm_2 (by decide) ?_
  refine lv_aload_n hx hb dX0_harm_3 rfl (lv_at hl 0 rfl) ?_
  refine lv_iload_n hx hb dX0_harm_4 rfl (lv_at hl 1 rfl) ?_
  refine lv_iload_n hx hb dX0_harm_5 rfl (lv_at hl 2 rfl) ?_
  refine lv_iload_n hx hb dX0_harm_6 rfl (lv_at hl 3 rfl) ?_
  refine lv_iload hx hb dX0_harm_7 (lv_at hl 4 rfl) ?_
  obtain ⟨o3, hc1, hs⟩ := ww_bnd hs
  rcases o3 with k4 | v5
  · have hs := ww_sL hs
    by_cases hk6 : k4 = 1
    · have hs := ww_T hs hk6
      rw [hk6] at hc1
      obtain ⟨σ8, e9, hs⟩ := ww_let hs
      obtain ⟨hs, hck⟩ := ww_ck2 hs
      have hrm1 := hcs.room (σ1 := σ8) (a := 1) (b := 6) (by rw [e9]; rfl) (by rw [e9]; rfl) hck
      refine ww_catN (hpc := 17) (vx_runV (As := [.int a2, .int a3, .int a4, .int a5]) (rest := [.int (0 : Int32), .ref (L 100 0)]) ⟨hx, hb, hml, hown, hts⟩ (c_X1_harm g hgm l L σ a2 a3 a4 a5 hst _ hc1) (cwV 4 hts (lw_V q1392 q1393 q1394 q111 q1395) rfl rfl rfl hd_X1_harm ⟨(Nat.le_of_ble_eq_true rfl), (Nat.le_of_ble_eq_true rfl)⟩) (ww_preV hW (pr_st (hW.rd hgm) (Nat.le_of_ble_eq_true rfl)) (obv_0 rfl) rfl) rfl rfl hl.1 rfl (lv_room (Nat.le_of_ble_eq_true rfl)) dX0_harm_9 hrm1) no_i hW (fun H1 locs1 q ce cells1 slots1 h1 h2 h3 kk => vx_catch (own := RX0) (name := exN 1) hown [] ⟨0, 14, 17, 15⟩ [] (htab.trans rfl) (fun z hz => by cases hz) rfl (by decide) (hts _ q815) (va_Nw.use rfl (hW.nw 42 rfl)) h1 h2 h3 kk) (fun H locs q7 hW => ?_)
      rw [← e9] at hW
      have hx0 : lext L0 σ0 L σ8 := by rw [e9]; exact hx0.trans lext_bX
      have hcs := hcs.more (σ1 := σ8) (a := 1) (b := 6) (by rw [e9]; rfl) (by rw [e9]; rfl)
      have hrm := hrm1
      refine lv_astore (lv' := [(6, .ref q7), (0, .ref (L 1 0)), (1, .int a2), (2, .int a3), (3, .int a4), (4, .int a5), (5, .ref (L 100 0))]) hx hb dX0_harm_17 hl (by decide) rfl (fun ls hl => ?_)
      refine lv_iconst (v := 1) hx hb dX0_harm_19 (by decide) ?_
      have hs := ww_S hs
      exact vx_ret (wa_i hx hb hr hlocks hx0 hcs hW (congrArg Prod.fst hs) (congrArg Prod.snd hs) dX0_harm_20)
    · have hs := ww_F hs hk6
      cases hs
  · have hs := ww_sR hs
    refine ww_xi0 (vx_runV (As := [.int a2, .int a3, .int a4, .int a5]) (rest := [.int (0 : Int32), .ref (L 100 0)]) ⟨hx, hb, hml, hown, hts⟩ (c_X1_harm g hgm l L σ a2 a3 a4 a5 hst _ hc1) (cwV 4 hts (lw_V q1392 q1393 q1394 q111 q1395) rfl rfl rfl hd_X1_harm ⟨(Nat.le_of_ble_eq_true rfl), (Nat.le_of_ble_eq_true rfl)⟩) (ww_preV hW (pr_st (hW.rd hgm) (Nat.le_of_ble_eq_true rfl)) (obv_0 rfl) rfl) rfl rfl hl.1 rfl (lv_room (Nat.le_of_ble_eq_true rfl)) dX0_harm_9 hrm) hW (fun H locs hW => ?_)
    refine lv_i2l hx hb dX0_harm_12 rfl ?_
    obtain ⟨hc10, hs⟩ := ww_chk hs
    obtain ⟨σ11, e12, hs⟩ := ww_let hs
    refine ww_last hx hb hW hc10 (j := (0 : Int32)) rfl dX0_harm_13 (fun H locs hW => ?_)
    have hW : wv g L σ11 s H locs := by rw [e12]; exact hW
    obtain ⟨hx0, hcs⟩ := lx_s (σ1 := σ11) hx0 hcs (by rw [e12]; exact kp_O)
    refine lv_goto (tgt := 21) hx hb dX0_harm_14 (by decide) ?_
    refine lv_iconst (v := 0) hx hb dX0_harm_21 (by decide) ?_
    have hs := ww_S hs
    exact vx_ret (wa_i hx hb hr hlocks hx0 hcs hW (congrArg Prod.fst hs) (congrArg Prod.snd hs) dX0_harm_22)
set_option maxHeartbeats 4000000 in
theorem c_X0_fund (g : wg_T) (hgm : gm g = true) (l : Launch) (L : ly_T) (σ : st_T) (a2 : Int32) (hst : l.stackTraces = false) (r_ : Int32) (σ_ : st_T) (hs : m_X0_fund σ a2 = some (r_, σ_)) : AI g l yX0_fund (wsW_ yX0_fund cX0_fund 4 (some .int) [(0, 9, 12, 15)]) 10 181 [.ref (L 1 0), .int a2, .ref (L 100 0)] L σ r_ σ_ := by
  refine hbody.metN (by decide) (Nat.le_of_ble_eq_true rfl) ?_
  intro p e s m args below meth c ls hx hb hr hml hlocks hts hown hnm htab hW hl
  have hown : s.vm.findClass RX0 = some m.cls := hown
  obtain ⟨L0, hL0⟩ : ∃ L0, L0 = L := ⟨_, rfl⟩
  obtain ⟨σ0, hσ0⟩ : ∃ σ0, σ0 = σ := ⟨_, rfl⟩
  rw [← hσ0, ← hL0]
  have hx0 : lext L0 σ0 L σ := by rw [hL0, hσ0]; exact lext.refl
  have hcs : bk σ0 σ 0 0 := bk.start hσ0
  have hrm : 0 ≤ cu_ σ_ - cu_ σ0 ∧ 0 ≤ su_ σ_ - su_ σ0 := ⟨Nat.zero_le _, Nat.zero_le _⟩
  have hl : lv_has ls 4 [(0, .ref (L 1 0)), (1, .int a2), (2, .ref (L 100 0))] := hl
  unfold m_X0_fund at hs
  refine lv_aload_n hx hb dX0_fund_0 rfl (lv_at hl 2 rfl) ?_
  refine lv_iconst (v := 0) hx hb dX0_fund_1 (by decide) ?_
  refine lv_aload_n hx hb dX0_fund_2 rfl (lv_at hl 0 rfl) ?_
  refine lv_iload_n hx hb dX0_fund_3 rfl (lv_at hl 1 rfl) ?_
  obtain ⟨o3, σ4, hc1, hs⟩ := ww_bn2 hs
  obtain ⟨hkp, hs⟩ := ww_pif hs
  obtain ⟨hx0, hcs⟩ := lx_s hx0 hcs hkp
  rcases o3 with k5 | v6
  · have hs := ww_sL hs
    by_cases hk7 : k5 = 1
    · have hs := ww_T hs hk7
      rw [hk7] at hc1
      obtain ⟨σ9, e10, hs⟩ := ww_let hs
      obtain ⟨hs, hck⟩ := ww_ck2 hs
      have hrm1 := hcs.room (σ1 := σ9) (a := 1) (b := 6) (by rw [e10]; rfl) (by rw [e10]; rfl) hck
      refine ww_catN (hpc := 12) (vx_runV (As := [.int a2]) (rest := [.int (0 : Int32), .ref (L 100 0)]) ⟨hx, hb, hml, hown, hts⟩ (c_X1_fund g hgm l L σ a2 hst _ _ hc1) (cwV 1 hts (lw_V q1405 q1406 q1407 q111 q1408) rfl rfl rfl hd_X1_fund ⟨(Nat.le_of_ble_eq_true rfl), (Nat.le_of_ble_eq_true rfl)⟩) (ww_preV hW (pr_st (hW.rd hgm) (Nat.le_of_ble_eq_true rfl)) (obv_0 rfl) rfl) rfl rfl hl.1 rfl (lv_room (Nat.le_of_ble_eq_true rfl)) dX0_fund_4 hrm1) no_i hW (fun H1 locs1 q ce cells1 slots1 h1 h2 h3 kk => vx_catch (own := RX0) (name := exN 1) hown [] ⟨0, 9, 12, 15⟩ [] (htab.trans rfl) (fun z hz => by cases hz) rfl (by decide) (hts _ q815) (va_Nw.use rfl (hW.nw 42 rfl)) h1 h2 h3 kk) (fun H locs q8 hW => ?_)
      rw [← e10] at hW
      have hx0 : lext L0 σ0 L σ9 := by rw [e10]; exact hx0.trans lext_bX
      have hcs := hcs.more (σ1 := σ9) (a := 1) (b := 6) (by rw [e10]; rfl) (by rw [e10]; rfl)
      have hrm := hrm1
      refine lv_astore_n (lv' := [(3, .ref q8), (0, .ref (L 1 0)), (1, .int a2), (2, .ref (L 100 0))]) hx hb dX0_fund_12 rfl hl (by decide) rfl (fun ls hl => ?_)
      refine lv_iconst (v := 1) hx hb dX0_fund_13 (by decide) ?_
      have hs := ww_S hs
      exact vx_ret (wa_i hx hb hr hlocks hx0 hcs hW (congrArg Prod.fst hs) (congrArg Prod.snd hs) dX0_fund_14)
    · have hs := ww_F hs hk7
      cases hs
  · have hs := ww_sR hs
    refine ww_xi0 (vx_runV (As := [.int a2]) (rest := [.int (0 : Int32), .ref (L 100 0)]) ⟨hx, hb, hml, hown, hts⟩ (c_X1_fund g hgm l L σ a2 hst _ _ hc1) (cwV 1 hts (lw_V q1405 q1406 q1407 q111 q1408) rfl rfl rfl hd_X1_fund ⟨(Nat.le_of_ble_eq_true rfl), (Nat.le_of_ble_eq_true rfl)⟩) (ww_preV hW (pr_st (hW.rd hgm) (Nat.le_of_ble_eq_true rfl)) (obv_0 rfl) rfl) rfl rfl hl.1 rfl (lv_room (Nat.le_of_ble_eq_true rfl)) dX0_fund_4 hrm) hW (fun H locs hW => ?_)
    refine lv_i2l hx hb dX0_fund_7 rfl ?_
    obtain ⟨hc11, hs⟩ := ww_chk hs
    obtain ⟨σ12, e13, hs⟩ := ww_let hs
    refine ww_last hx hb hW hc11 (j := (0 : Int32)) rfl dX0_fund_8 (fun H locs hW => ?_)
    have hW : wv g L σ12 s H locs := by rw [e13]; exact hW
    obtain ⟨hx0, hcs⟩ := lx_s (σ1 := σ12) hx0 hcs (by rw [e13]; exact kp_O)
    refine lv_goto (tgt := 15) hx hb dX0_fund_9 (by decide) ?_
    refine lv_iconst (v := 0) hx hb dX0_fund_15 (by decide) ?_
    have hs := ww_S hs
    exact vx_ret (wa_i hx hb hr hlocks hx0 hcs hW (congrArg Prod.fst hs) (congrArg Prod.snd hs) dX0_fund_16)
set_option maxHeartbeats 4000000 in
theorem c_X0_judge (g : wg_T) (hgm : gm g = true) (l : Launch) (L : ly_T) (σ : st_T) (a2 : Int32) (a3 : Int32) (a4 : Int32) (a5 : Int32) (hst : l.stackTraces = false) (r_ : Int32) (σ_ : st_T) (hs : m_X0_judge σ a2 a3 a4 a5 = some (r_, σ_)) : AI g l yX0_judge (wsW_ yX0_judge cX0_judge 7 (some .int) [(0, 14, 17, 52), (0, 14, 21, 15)]) 1234 33736 [.ref (L 1 0), .int a2, .int a3, .int a4, .int a5, .ref (L 100 0)] L σ r_ σ_ := by
  refine hbody.metN (by decide) (Nat.le_of_ble_eq_true rfl) ?_
  intro p e s m args below meth c ls hx hb hr hml hlocks hts hown hnm htab hW hl
  have hown : s.vm.findClass RX0 = some m.cls := hown
  obtain ⟨L0, hL0⟩ : ∃ L0, L0 = L := ⟨_, rfl⟩
  obtain ⟨σ0, hσ0⟩ : ∃ σ0, σ0 = σ := ⟨_, rfl⟩
  rw [← hσ0, ← hL0]
  have hx0 : lext L0 σ0 L σ := by rw [hL0, hσ0]; exact lext.refl
  have hcs : bk σ0 σ 0 0 := bk.start hσ0
  have hrm : 0 ≤ cu_ σ_ - cu_ σ0 ∧ 0 ≤ su_ σ_ - su_ σ0 := ⟨Nat.zero_le _, Nat.zero_le _⟩
  have hl : lv_has ls 7 [(0, .ref (L 1 0)), (1, .int a2), (2, .int a3), (3, .int a4), (4, .int a5), (5, .ref (L 100 0))] := hl
  unfold m_X0_judge at hs
  refine lv_aload hx hb dX0_judge_0 (lv_at hl 5 rfl) ?_
  refine lv_iconst (v := 0) hx hb dX0_judge_2 (by decide) ?_
  refine lv_aload_n hx hb dX0_judge_3 rfl (lv_at hl 0 rfl) ?_
  refine lv_iload_n hx hb dX0_judge_4 rfl (lv_at hl 1 rfl) ?_
  refine lv_iload_n hx hb dX0_judge_5 rfl (lv_at hl 2 rfl) ?_
  refine lv_iload_n hx hb dX0_judge_6 rfl (lv_at hl 3 rfl) ?_
  refine lv_iload hx hb dX0_judge_7 (lv_at hl 4 rfl) ?_
  obtain ⟨o3, σ4, hc1, hs⟩ := ww_bn2 hs
  obtain ⟨hkp, hs⟩ := ww_pif hs
  obtain ⟨hx0, hcs⟩ := lx_s hx0 hcs hkp
  rcases o3 with k5 | v6
  · have hs := ww_sL hs
    by_cases hk7 : k5 = 3
    · have hs := ww_T hs hk7
      rw [hk7] at hc1
      obtain ⟨σ9, e10, hs⟩ := ww_let hs
      obtain ⟨hs, hck⟩ := ww_ck2 hs
      have hrm1 := hcs.room (σ1 := σ9) (a := 1) (b := 6) (by rw [e10]; rfl) (by rw [e10]; rfl) hck
      refine ww_catN (hpc := 17) (vx_runV (As := [.int a2, .int a3, .int a4, .int a5]) (rest := [.int (0 : Int32), .ref (L 100 0)]) ⟨hx, hb, hml, hown, hts⟩ (c_X1_judge g hgm l L σ a2 a3 a4 a5 hst _ _ hc1) (cwV 4 hts (lw_V q1413 q1414 q1415 q111 q1416) rfl rfl rfl hd_X1_judge ⟨(Nat.le_of_ble_eq_true rfl), (Nat.le_of_ble_eq_true rfl)⟩) (ww_preV hW (pr_st (hW.rd hgm) (Nat.le_of_ble_eq_true rfl)) (obv_0 rfl) rfl) rfl rfl hl.1 rfl (lv_room (Nat.le_of_ble_eq_true rfl)) dX0_judge_9 hrm1) no_i hW (fun H1 locs1 q ce cells1 slots1 h1 h2 h3 kk => vx_catch (own := RX0) (name := exN 3) hown [] ⟨0, 14, 17, 52⟩ [⟨0, 14, 21, 15⟩] (htab.trans rfl) (fun z hz => by cases hz) rfl (by decide) (hts _ q1186) (va_Nw.use rfl (hW.nw 55 rfl)) h1 h2 h3 kk) (fun H locs q8 hW => ?_)
      rw [← e10] at hW
      have hx0 : lext L0 σ0 L σ9 := by rw [e10]; exact hx0.trans lext_bX
      have hcs := hcs.more (σ1 := σ9) (a := 1) (b := 6) (by rw [e10]; rfl) (by rw [e10]; rfl)
      have hrm := hrm1
      refine lv_astore (lv' := [(6, .ref q8), (0, .ref (L 1 0)), (1, .int a2), (2, .int a3), (3, .int a4), (4, .int a5), (5, .ref (L 100 0))]) hx hb dX0_judge_17 hl (by decide) rfl (fun ls hl => ?_)
      refine lv_iconst (v := 1) hx hb dX0_judge_19 (by decide) ?_
      have hs := ww_S hs
      exact vx_ret (wa_i hx hb hr hlocks hx0 hcs hW (congrArg Prod.fst hs) (congrArg Prod.snd hs) dX0_judge_20)
    · have hs := ww_F hs hk7
      by_cases hk11 : k5 = 1
      · have hs := ww_T hs hk11
        rw [hk11] at hc1
        obtain ⟨σ13, e14, hs⟩ := ww_let hs
        obtain ⟨hs, hck⟩ := ww_ck2 hs
        have hrm1 := hcs.room (σ1 := σ13) (a := 1) (b := 6) (by rw [e14]; rfl) (by rw [e14]; rfl) hck
        refine ww_catN (hpc := 21) (vx_runV (As := [.int a2, .int a3, .int a4, .int a5]) (rest := [.int (0 : Int32), .ref (L 100 0)]) ⟨hx, hb, hml, hown, hts⟩ (c_X1_judge g hgm l L σ a2 a3 a4 a5 hst _ _ hc1) (cwV 4 hts (lw_V q1413 q1414 q1415 q111 q1416) rfl rfl rfl hd_X1_judge ⟨(Nat.le_of_ble_eq_true rfl), (Nat.le_of_ble_eq_true rfl)⟩) (ww_preV hW (pr_st (hW.rd hgm) (Nat.le_of_ble_eq_true rfl)) (obv_0 rfl) rfl) rfl rfl hl.1 rfl (lv_room (Nat.le_of_ble_eq_true rfl)) dX0_judge_9 hrm1) no_i hW (fun H1 locs1 q ce cells1 slots1 h1 h2 h3 kk => vx_catch (own := RX0) (name := exN 1) hown [⟨0, 14, 17, 52⟩] ⟨0, 14, 21, 15⟩ [] (htab.trans rfl) (fun z hz => by simp only [List.mem_cons, List.not_mem_nil, or_false] at hz; rcases hz with rfl <;> first | exact Or.inr ⟨by decide, _, hts _ q1186, hW.1.2.2.2.2.2.2.2.2.2.2.2.2.2.2.2 1 3 (by decide) (by decide) (by decide)⟩) rfl (by decide) (hts _ q815) (va_Nw.use rfl (hW.nw 42 rfl)) h1 h2 h3 kk) (fun H locs q12 hW => ?_)
        rw [← e14] at hW
        have hx0 : lext L0 σ0 L σ13 := by rw [e14]; exact hx0.trans lext_bX
        have hcs := hcs.more (σ1 := σ13) (a := 1) (b := 6) (by rw [e14]; rfl) (by rw [e14]; rfl)
        have hrm := hrm1
        refine lv_astore (lv' := [(6, .ref q12), (0, .ref (L 1 0)), (1, .int a2), (2, .int a3), (3, .int a4), (4, .int a5), (5, .ref (L 100 0))]) hx hb dX0_judge_21 hl (by decide) rfl (fun ls hl => ?_)
        refine lv_iconst (v := 2) hx hb dX0_judge_23 (by decide) ?_
        have hs := ww_S hs
        exact vx_ret (wa_i hx hb hr hlocks hx0 hcs hW (congrArg Prod.fst hs) (congrArg Prod.snd hs) dX0_judge_24)
      · have hs := ww_F hs hk11
        cases hs
  · have hs := ww_sR hs
    refine ww_xi0 (vx_runV (As := [.int a2, .int a3, .int a4, .int a5]) (rest := [.int (0 : Int32), .ref (L 100 0)]) ⟨hx, hb, hml, hown, hts⟩ (c_X1_judge g hgm l L σ a2 a3 a4 a5 hst _ _ hc1) (cwV 4 hts (lw_V q1413 q1414 q1415 q111 q1416) rfl rfl rfl hd_X1_judge ⟨(Nat.le_of_ble_eq_true rfl), (Nat.le_of_ble_eq_true rfl)⟩) (ww_preV hW (pr_st (hW.rd hgm) (Nat.le_of_ble_eq_true rfl)) (obv_0 rfl) rfl) rfl rfl hl.1 rfl (lv_room (Nat.le_of_ble_eq_true rfl)) dX0_judge_9 hrm) hW (fun H locs hW => ?_)
    refine lv_i2l hx hb dX0_judge_12 rfl ?_
    obtain ⟨hc15, hs⟩ := ww_chk hs
    obtain ⟨σ16, e17, hs⟩ := ww_let hs
    refine ww_last hx hb hW hc15 (j := (0 : Int32)) rfl dX0_judge_13 (fun H locs hW => ?_)
    have hW : wv g L σ16 s H locs := by rw [e17]; exact hW
    obtain ⟨hx0, hcs⟩ := lx_s (σ1 := σ16) hx0 hcs (by rw [e17]; exact kp_O)
    refine lv_goto (tgt := 25) hx hb dX0_judge_14 (by decide) ?_
    refine lv_iconst (v := 0) hx hb dX0_judge_25 (by decide) ?_
    have hs := ww_S hs
    exact vx_ret (wa_i hx hb hr hlocks hx0 hcs hW (congrArg Prod.fst hs) (congrArg Prod.snd hs) dX0_judge_26)
set_option maxHeartbeats 4000000 in
theorem c_X0_claim (g : wg_T) (hgm : gm g = true) (l : Launch) (L : ly_T) (σ : st_T) (a2 : Int32) (a3 : Int32) (hst : l.stackTraces = false) (r_ : Int32) (σ_ : st_T) (hs : m_X0_claim σ a2 a3 = some (r_, σ_)) : AI g l yX0_claim (wsW_ yX0_claim cX0_claim 5 (some .int) [(0, 10, 13, 52), (0, 10, 17, 15)]) 10 194 [.ref (L 1 0), .int a2, .int a3, .ref (L 100 0)] L σ r_ σ_ := by
  refine hbody.metN (by decide) (Nat.le_of_ble_eq_true rfl) ?_
  intro p e s m args below meth c ls hx hb hr hml hlocks hts hown hnm htab hW hl
  have hown : s.vm.findClass RX0 = some m.cls := hown
  obtain ⟨L0, hL0⟩ : ∃ L0, L0 = L := ⟨_, rfl⟩
  obtain ⟨σ0, hσ0⟩ : ∃ σ0, σ0 = σ := ⟨_, rfl⟩
  rw [← hσ0, ← hL0]
  have hx0 : lext L0 σ0 L σ := by rw [hL0, hσ0]; exact lext.refl
  have hcs : bk σ0 σ 0 0 := bk.start hσ0
  have hrm : 0 ≤ cu_ σ_ - cu_ σ0 ∧ 0 ≤ su_ σ_ - su_ σ0 := ⟨Nat.zero_le _, Nat.zero_le _⟩
  have hl : lv_has ls 5 [(0, .ref (L 1 0)), (1, .int a2), (2, .int a3), (3, .ref (L 100 0))] := hl
  unfold m_X0_claim at hs
  refine lv_aload_n hx hb dX0_claim_0 rfl (lv_at hl 3 rfl) ?_
  refine lv_iconst (v := 0) hx hb dX0_claim_1 (by decide) ?_
  refine lv_aload_n hx hb dX0_claim_2 rfl (lv_at hl 0 rfl) ?_
  refine lv_iload_n hx hb dX0_claim_3 rfl (lv_at hl 1 rfl) ?_
  refine lv_iload_n hx hb dX0_claim_4 rfl (lv_at hl 2 rfl) ?_
  obtain ⟨o3, hc1, hs⟩ := ww_bnd hs
  rcases o3 with k4 | v5
  · have hs := ww_sL hs
    by_cases hk6 : k4 = 3
    · have hs := ww_T hs hk6
      rw [hk6] at hc1
      obtain ⟨σ8, e9, hs⟩ := ww_let hs
      obtain ⟨hs, hck⟩ := ww_ck2 hs
      have hrm1 := hcs.room (σ1 := σ8) (a := 1) (b := 6) (by rw [e9]; rfl) (by rw [e9]; rfl) hck
      refine ww_catN (hpc := 13) (vx_runV (As := [.int a2, .int a3]) (rest := [.int (0 : Int32), .ref (L 100 0)]) ⟨hx, hb, hml, hown, hts⟩ (c_X1_claim g hgm l L σ a2 a3 hst _ hc1) (cwV 2 hts (lw_V q1482 q1483 q1484 q111 q1485) rfl rfl rfl hd_X1_claim ⟨(Nat.le_of_ble_eq_true rfl), (Nat.le_of_ble_eq_true rfl)⟩) (ww_preV hW (pr_st (hW.rd hgm) (Nat.le_of_ble_eq_true rfl)) (obv_0 rfl) rfl) rfl rfl hl.1 rfl (lv_room (Nat.le_of_ble_eq_true rfl)) dX0_claim_5 hrm1) no_i hW (fun H1 locs1 q ce cells1 slots1 h1 h2 h3 kk => vx_catch (own := RX0) (name := exN 3) hown [] ⟨0, 10, 13, 52⟩ [⟨0, 10, 17, 15⟩] (htab.trans rfl) (fun z hz => by cases hz) rfl (by decide) (hts _ q1186) (va_Nw.use rfl (hW.nw 55 rfl)) h1 h2 h3 kk) (fun H locs q7 hW => ?_)
      rw [← e9] at hW
      have hx0 : lext L0 σ0 L σ8 := by rw [e9]; exact hx0.trans lext_bX
      have hcs := hcs.more (σ1 := σ8) (a := 1) (b := 6) (by rw [e9]; rfl) (by rw [e9]; rfl)
      have hrm := hrm1
      refine lv_astore (lv' := [(4, .ref q7), (0, .ref (L 1 0)), (1, .int a2), (2, .int a3), (3, .ref (L 100 0))]) hx hb dX0_claim_13 hl (by decide) rfl (fun ls hl => ?_)
      refine lv_iconst (v := 1) hx hb dX0_claim_15 (by decide) ?_
      have hs := ww_S hs
      exact vx_ret (wa_i hx hb hr hlocks hx0 hcs hW (congrArg Prod.fst hs) (congrArg Prod.snd hs) dX0_claim_16)
    · have hs := ww_F hs hk6
      by_cases hk10 : k4 = 1
      · have hs := ww_T hs hk10
        rw [hk10] at hc1
        obtain ⟨σ12, e13, hs⟩ := ww_let hs
        obtain ⟨hs, hck⟩ := ww_ck2 hs
        have hrm1 := hcs.room (σ1 := σ12) (a := 1) (b := 6) (by rw [e13]; rfl) (by rw [e13]; rfl) hck
        refine ww_catN (hpc := 17) (vx_runV (As := [.int a2, .int a3]) (rest := [.int (0 : Int32), .ref (L 100 0)]) ⟨hx, hb, hml, hown, hts⟩ (c_X1_claim g hgm l L σ a2 a3 hst _ hc1) (cwV 2 hts (lw_V q1482 q1483 q1484 q111 q1485) rfl rfl rfl hd_X1_claim ⟨(Nat.le_of_ble_eq_true rfl), (Nat.le_of_ble_eq_true rfl)⟩) (ww_preV hW (pr_st (hW.rd hgm) (Nat.le_of_ble_eq_true rfl)) (obv_0 rfl) rfl) rfl rfl hl.1 rfl (lv_room (Nat.le_of_ble_eq_true rfl)) dX0_claim_5 hrm1) no_i hW (fun H1 locs1 q ce cells1 slots1 h1 h2 h3 kk => vx_catch (own := RX0) (name := exN 1) hown [⟨0, 10, 13, 52⟩] ⟨0, 10, 17, 15⟩ [] (htab.trans rfl) (fun z hz => by simp only [List.mem_cons, List.not_mem_nil, or_false] at hz; rcases hz with rfl <;> first | exact Or.inr ⟨by decide, _, hts _ q1186, hW.1.2.2.2.2.2.2.2.2.2.2.2.2.2.2.2 1 3 (by decide) (by decide) (by decide)⟩) rfl (by decide) (hts _ q815) (va_Nw.use rfl (hW.nw 42 rfl)) h1 h2 h3 kk) (fun H locs q11 hW => ?_)
        rw [← e13] at hW
        have hx0 : lext L0 σ0 L σ12 := by rw [e13]; exact hx0.trans lext_bX
        have hcs := hcs.more (σ1 := σ12) (a := 1) (b := 6) (by rw [e13]; rfl) (by rw [e13]; rfl)
        have hrm := hrm1
        refine lv_astore (lv' := [(4, .ref q11), (0, .ref (L 1 0)), (1, .int a2), (2, .int a3), (3, .ref (L 100 0))]) hx hb dX0_claim_17 hl (by decide) rfl (fun ls hl => ?_)
        refine lv_iconst (v := 2) hx hb dX0_claim_19 (by decide) ?_
        have hs := ww_S hs
        exact vx_ret (wa_i hx hb hr hlocks hx0 hcs hW (congrArg Prod.fst hs) (congrArg Prod.snd hs) dX0_claim_20)
      · have hs := ww_F hs hk10
        cases hs
  · have hs := ww_sR hs
    refine ww_xi0 (vx_runV (As := [.int a2, .int a3]) (rest := [.int (0 : Int32), .ref (L 100 0)]) ⟨hx, hb, hml, hown, hts⟩ (c_X1_claim g hgm l L σ a2 a3 hst _ hc1) (cwV 2 hts (lw_V q1482 q1483 q1484 q111 q1485) rfl rfl rfl hd_X1_claim ⟨(Nat.le_of_ble_eq_true rfl), (Nat.le_of_ble_eq_true rfl)⟩) (ww_preV hW (pr_st (hW.rd hgm) (Nat.le_of_ble_eq_true rfl)) (obv_0 rfl) rfl) rfl rfl hl.1 rfl (lv_room (Nat.le_of_ble_eq_true rfl)) dX0_claim_5 hrm) hW (fun H locs hW => ?_)
    refine lv_i2l hx hb dX0_claim_8 rfl ?_
    obtain ⟨hc14, hs⟩ := ww_chk hs
    obtain ⟨σ15, e16, hs⟩ := ww_let hs
    refine ww_last hx hb hW hc14 (j := (0 : Int32)) rfl dX0_claim_9 (fun H locs hW => ?_)
    have hW : wv g L σ15 s H locs := by rw [e16]; exact hW
    obtain ⟨hx0, hcs⟩ := lx_s (σ1 := σ15) hx0 hcs (by rw [e16]; exact kp_O)
    refine lv_goto (tgt := 21) hx hb dX0_claim_10 (by decide) ?_
    refine lv_iconst (v := 0) hx hb dX0_claim_21 (by decide) ?_
    have hs := ww_S hs
    exact vx_ret (wa_i hx hb hr hlocks hx0 hcs hW (congrArg Prod.fst hs) (congrArg Prod.snd hs) dX0_claim_22)
set_option maxHeartbeats 4000000 in
theorem c_X0_fix (g : wg_T) (hgm : gm g = true) (l : Launch) (L : ly_T) (σ : st_T) (a2 : Int32) (a3 : Int32) (a4 : Int32) (hst : l.stackTraces = false) (r_ : Int32) (σ_ : st_T) (hs : m_X0_fix σ a2 a3 a4 = some (r_, σ_)) : AI g l yX0_fix (wsW_ yX0_fix cX0_fix 6 (some .int) [(0, 12, 15, 52), (0, 12, 19, 13), (0, 12, 23, 15)]) 11 204 [.ref (L 1 0), .int a2, .int a3, .int a4, .ref (L 100 0)] L σ r_ σ_ := by
  refine hbody.metN (by decide) (Nat.le_of_ble_eq_true rfl) ?_
  intro p e s m args below meth c ls hx hb hr hml hlocks hts hown hnm htab hW hl
  have hown : s.vm.findClass RX0 = some m.cls := hown
  obtain ⟨L0, hL0⟩ : ∃ L0, L0 = L := ⟨_, rfl⟩
  obtain ⟨σ0, hσ0⟩ : ∃ σ0, σ0 = σ := ⟨_, rfl⟩
  rw [← hσ0, ← hL0]
  have hx0 : lext L0 σ0 L σ := by rw [hL0, hσ0]; exact lext.refl
  have hcs : bk σ0 σ 0 0 := bk.start hσ0
  have hrm : 0 ≤ cu_ σ_ - cu_ σ0 ∧ 0 ≤ su_ σ_ - su_ σ0 := ⟨Nat.zero_le _, Nat.zero_le _⟩
  have hl : lv_has ls 6 [(0, .ref (L 1 0)), (1, .int a2), (2, .int a3), (3, .int a4), (4, .ref (L 100 0))] := hl
  unfold m_X0_fix at hs
  refine lv_aload hx hb dX0_fix_0 (lv_at hl 4 rfl) ?_
  refine lv_iconst (v := 0) hx hb dX0_fix_2 (by decide) ?_
  refine lv_aload_n hx hb dX0_fix_3 rfl (lv_at hl 0 rfl) ?_
  refine lv_iload_n hx hb dX0_fix_4 rfl (lv_at hl 1 rfl) ?_
  refine lv_iload_n hx hb dX0_fix_5 rfl (lv_at hl 2 rfl) ?_
  refine lv_iload_n hx hb dX0_fix_6 rfl (lv_at hl 3 rfl) ?_
  obtain ⟨o3, σ4, hc1, hs⟩ := ww_bn2 hs
  obtain ⟨hkp, hs⟩ := ww_pif hs
  obtain ⟨hx0, hcs⟩ := lx_s hx0 hcs hkp
  rcases o3 with k5 | v6
  · have hs := ww_sL hs
    by_cases hk7 : k5 = 3
    · have hs := ww_T hs hk7
      rw [hk7] at hc1
      obtain ⟨σ9, e10, hs⟩ := ww_let hs
      obtain ⟨hs, hck⟩ := ww_ck2 hs
      have hrm1 := hcs.room (σ1 := σ9) (a := 1) (b := 6) (by rw [e10]; rfl) (by rw [e10]; rfl) hck
      refine ww_catN (hpc := 15) (vx_runV (As := [.int a2, .int a3, .int a4]) (rest := [.int (0 : Int32), .ref (L 100 0)]) ⟨hx, hb, hml, hown, hts⟩ (c_X1_fix g hgm l L σ a2 a3 a4 hst _ _ hc1) (cwV 3 hts (lw_V q1489 q1490 q1491 q111 q1492) rfl rfl rfl hd_X1_fix ⟨(Nat.le_of_ble_eq_true rfl), (Nat.le_of_ble_eq_true rfl)⟩) (ww_preV hW (pr_st (hW.rd hgm) (Nat.le_of_ble_eq_true rfl)) (obv_0 rfl) rfl) rfl rfl hl.1 rfl (lv_room (Nat.le_of_ble_eq_true rfl)) dX0_fix_7 hrm1) no_i hW (fun H1 locs1 q ce cells1 slots1 h1 h2 h3 kk => vx_catch (own := RX0) (name := exN 3) hown [] ⟨0, 12, 15, 52⟩ [⟨0, 12, 19, 13⟩, ⟨0, 12, 23, 15⟩] (htab.trans rfl) (fun z hz => by cases hz) rfl (by decide) (hts _ q1186) (va_Nw.use rfl (hW.nw 55 rfl)) h1 h2 h3 kk) (fun H locs q8 hW => ?_)
      rw [← e10] at hW
      have hx0 : lext L0 σ0 L σ9 := by rw [e10]; exact hx0.trans lext_bX
      have hcs := hcs.more (σ1 := σ9) (a := 1) (b := 6) (by rw [e10]; rfl) (by rw [e10]; rfl)
      have hrm := hrm1
      refine lv_astore (lv' := [(5, .ref q8), (0, .ref (L 1 0)), (1, .int a2), (2, .int a3), (3, .int a4), (4, .ref (L 100 0))]) hx hb dX0_fix_15 hl (by decide) rfl (fun ls hl => ?_)
      refine lv_iconst (v := 1) hx hb dX0_fix_17 (by decide) ?_
      have hs := ww_S hs
      exact vx_ret (wa_i hx hb hr hlocks hx0 hcs hW (congrArg Prod.fst hs) (congrArg Prod.snd hs) dX0_fix_18)
    · have hs := ww_F hs hk7
      by_cases hk11 : k5 = 0
      · have hs := ww_T hs hk11
        rw [hk11] at hc1
        obtain ⟨σ13, e14, hs⟩ := ww_let hs
        obtain ⟨hs, hck⟩ := ww_ck2 hs
        have hrm1 := hcs.room (σ1 := σ13) (a := 1) (b := 6) (by rw [e14]; rfl) (by rw [e14]; rfl) hck
        refine ww_catN (hpc := 19) (vx_runV (As := [.int a2, .int a3, .int a4]) (rest := [.int (0 : Int32), .ref (L 100 0)]) ⟨hx, hb, hml, hown, hts⟩ (c_X1_fix g hgm l L σ a2 a3 a4 hst _ _ hc1) (cwV 3 hts (lw_V q1489 q1490 q1491 q111 q1492) rfl rfl rfl hd_X1_fix ⟨(Nat.le_of_ble_eq_true rfl), (Nat.le_of_ble_eq_true rfl)⟩) (ww_preV hW (pr_st (hW.rd hgm) (Nat.le_of_ble_eq_true rfl)) (obv_0 rfl) rfl) rfl rfl hl.1 rfl (lv_room (Nat.le_of_ble_eq_true rfl)) dX0_fix_7 hrm1) no_i hW (fun H1 locs1 q ce cells1 slots1 h1 h2 h3 kk => vx_catch (own := RX0) (name := exN 0) hown [⟨0, 12, 15, 52⟩] ⟨0, 12, 19, 13⟩ [⟨0, 12, 23, 15⟩] (htab.trans rfl) (fun z hz => by simp only [List.mem_cons, List.not_mem_nil, or_false] at hz; rcases hz with rfl <;> first | exact Or.inr ⟨by decide, _, hts _ q1186, hW.1.2.2.2.2.2.2.2.2.2.2.2.2.2.2.2 0 3 (by decide) (by decide) (by decide)⟩) rfl (by decide) (hts _ q737) (va_Nw.use rfl (hW.nw 41 rfl)) h1 h2 h3 kk) (fun H locs q12 hW => ?_)
        rw [← e14] at hW
        have hx0 : lext L0 σ0 L σ13 := by rw [e14]; exact hx0.trans lext_bX
        have hcs := hcs.more (σ1 := σ13) (a := 1) (b := 6) (by rw [e14]; rfl) (by rw [e14]; rfl)
        have hrm := hrm1
        refine lv_astore (lv' := [(5, .ref q12), (0, .ref (L 1 0)), (1, .int a2), (2, .int a3), (3, .int a4), (4, .ref (L 100 0))]) hx hb dX0_fix_19 hl (by decide) rfl (fun ls hl => ?_)
        refine lv_iconst (v := 2) hx hb dX0_fix_21 (by decide) ?_
        have hs := ww_S hs
        exact vx_ret (wa_i hx hb hr hlocks hx0 hcs hW (congrArg Prod.fst hs) (congrArg Prod.snd hs) dX0_fix_22)
      · have hs := ww_F hs hk11
        by_cases hk15 : k5 = 1
        · have hs := ww_T hs hk15
          rw [hk15] at hc1
          obtain ⟨σ17, e18, hs⟩ := ww_let hs
          obtain ⟨hs, hck⟩ := ww_ck2 hs
          have hrm1 := hcs.room (σ1 := σ17) (a := 1) (b := 6) (by rw [e18]; rfl) (by rw [e18]; rfl) hck
          refine ww_catN (hpc := 23) (vx_runV (As := [.int a2, .int a3, .int a4]) (rest := [.int (0 : Int32), .ref (L 100 0)]) ⟨hx, hb, hml, hown, hts⟩ (c_X1_fix g hgm l L σ a2 a3 a4 hst _ _ hc1) (cwV 3 hts (lw_V q1489 q1490 q1491 q111 q1492) rfl rfl rfl hd_X1_fix ⟨(Nat.le_of_ble_eq_true rfl), (Nat.le_of_ble_eq_true rfl)⟩) (ww_preV hW (pr_st (hW.rd hgm) (Nat.le_of_ble_eq_true rfl)) (obv_0 rfl) rfl) rfl rfl hl.1 rfl (lv_room (Nat.le_of_ble_eq_true rfl)) dX0_fix_7 hrm1) no_i hW (fun H1 locs1 q ce cells1 slots1 h1 h2 h3 kk => vx_catch (own := RX0) (name := exN 1) hown [⟨0, 12, 15, 52⟩, ⟨0, 12, 19, 13⟩] ⟨0, 12, 23, 15⟩ [] (htab.trans rfl) (fun z hz => by simp only [List.mem_cons, List.not_mem_nil, or_false] at hz; rcases hz with rfl | rfl <;> first | exact Or.inr ⟨by decide, _, hts _ q1186, hW.1.2.2.2.2.2.2.2.2.2.2.2.2.2.2.2 1 3 (by decide) (by decide) (by decide)⟩ | exact Or.inr ⟨by decide, _, hts _ q737, hW.1.2.2.2.2.2.2.2.2.2.2.2.2.2.2.2 1 0 (by decide) (by decide) (by decide)⟩) rfl (by decide) (hts _ q815) (va_Nw.use rfl (hW.nw 42 rfl)) h1 h2 h3 kk) (fun H locs q16 hW => ?_)
          rw [← e18] at hW
          have hx0 : lext L0 σ0 L σ17 := by rw [e18]; exact hx0.trans lext_bX
          have hcs := hcs.more (σ1 := σ17) (a := 1) (b := 6) (by rw [e18]; rfl) (by rw [e18]; rfl)
          have hrm := hrm1
          refine lv_astore (lv' := [(5, .ref q16), (0, .ref (L 1 0)), (1, .int a2), (2, .int a3), (3, .int a4), (4, .ref (L 100 0))]) hx hb dX0_fix_23 hl (by decide) rfl (fun ls hl => ?_)
          refine lv_iconst (v := 3) hx hb dX0_fix_25 (by decide) ?_
          have hs := ww_S hs
          exact vx_ret (wa_i hx hb hr hlocks hx0 hcs hW (congrArg Prod.fst hs) (congrArg Prod.snd hs) dX0_fix_26)
        · have hs := ww_F hs hk15
          cases hs
  · have hs := ww_sR hs
    refine ww_xi0 (vx_runV (As := [.int a2, .int a3, .int a4]) (rest := [.int (0 : Int32), .ref (L 100 0)]) ⟨hx, hb, hml, hown, hts⟩ (c_X1_fix g hgm l L σ a2 a3 a4 hst _ _ hc1) (cwV 3 hts (lw_V q1489 q1490 q1491 q111 q1492) rfl rfl rfl hd_X1_fix ⟨(Nat.le_of_ble_eq_true rfl), (Nat.le_of_ble_eq_true rfl)⟩) (ww_preV hW (pr_st (hW.rd hgm) (Nat.le_of_ble_eq_true rfl)) (obv_0 rfl) rfl) rfl rfl hl.1 rfl (lv_room (Nat.le_of_ble_eq_true rfl)) dX0_fix_7 hrm) hW (fun H locs hW => ?_)
    refine lv_i2l hx hb dX0_fix_10 rfl ?_
    obtain ⟨hc19, hs⟩ := ww_chk hs
    obtain ⟨σ20, e21, hs⟩ := ww_let hs
    refine ww_last hx hb hW hc19 (j := (0 : Int32)) rfl dX0_fix_11 (fun H locs hW => ?_)
    have hW : wv g L σ20 s H locs := by rw [e21]; exact hW
    obtain ⟨hx0, hcs⟩ := lx_s (σ1 := σ20) hx0 hcs (by rw [e21]; exact kp_O)
    refine lv_goto (tgt := 27) hx hb dX0_fix_12 (by decide) ?_
    refine lv_iconst (v := 0) hx hb dX0_fix_27 (by decide) ?_
    have hs := ww_S hs
    exact vx_ret (wa_i hx hb hr hlocks hx0 hcs hW (congrArg Prod.fst hs) (congrArg Prod.snd hs) dX0_fix_28)
set_option maxHeartbeats 4000000 in
theorem c_X0_mayBe (g : wg_T) (hgm : gm g = true) (l : Launch) (L : ly_T) (σ : st_T) (a2 : Int32) (a3 : Int32) (a4 : Int32) (hst : l.stackTraces = false) (r_ : Int32) (σ_ : st_T) (hs : m_X0_mayBe σ a2 a3 a4 = some (r_, σ_)) : AI g l yX0_mayBe (wsW_ yX0_mayBe cX0_mayBe 6 (some .int) [(0, 19, 22, 52), (0, 19, 26, 13), (0, 19, 30, 15)]) 11 204 [.ref (L 1 0), .int a2, .int a3, .int a4, .ref (L 100 0)] L σ r_ σ_ := by
  refine hbody.metN (by decide) (Nat.le_of_ble_eq_true rfl) ?_
  intro p e s m args below meth c ls hx hb hr hml hlocks hts hown hnm htab hW hl
  have hown : s.vm.findClass RX0 = some m.cls := hown
  obtain ⟨L0, hL0⟩ : ∃ L0, L0 = L := ⟨_, rfl⟩
  obtain ⟨σ0, hσ0⟩ : ∃ σ0, σ0 = σ := ⟨_, rfl⟩
  rw [← hσ0, ← hL0]
  have hx0 : lext L0 σ0 L σ := by rw [hL0, hσ0]; exact lext.refl
  have hcs : bk σ0 σ 0 0 := bk.start hσ0
  have hrm : 0 ≤ cu_ σ_ - cu_ σ0 ∧ 0 ≤ su_ σ_ - su_ σ0 := ⟨Nat.zero_le _, Nat.zero_le _⟩
  have hl : lv_has ls 6 [(0, .ref (L 1 0)), (1, .int a2), (2, .int a3), (3, .int a4), (4, .ref (L 100 0))] := hl
  unfold m_X0_mayBe at hs
  have hL18 : ∀ (L : ly_T) (σ : st_T) (t1 : Int32) (t2 : Int64) (H : Heap) (locs : List Loc) (cells slots : Nat) (ls : Array Slot), lext L0 σ0 L σ → bk σ0 σ cells slots → (cells ≤ cu_ σ_ - cu_ σ0 ∧ slots ≤ su_ σ_ - su_ σ0) → wv g L σ s H locs → lv_has ls 6 [] → m_X0_mayBe_L18 σ t1 t2 = some (r_, σ_) → W p l e (wrA 11 204 σ0 σ_) s m args below meth c H locs cells slots (vx_MQ below (wAi g L0 σ0 r_ σ_) nX_ args s (cu_ σ_ - cu_ σ0) (su_ σ_ - su_ σ0) (fun q => gz g ≤ q)) (F0 m 18 ls [.long t2, .int t1, .ref (L 100 0)]) := by
    intro L σ t1 t2 H locs cells slots ls hx0 hcs hrm hW hl hs
    unfold m_X0_mayBe_L18 at hs
    obtain ⟨hc1, hs⟩ := ww_chk hs
    obtain ⟨hc2, hs⟩ := ww_chk hs
    obtain ⟨σ3, e4, hs⟩ := ww_let hs
    refine ww_last hx hb hW hc1 (j := t1) hc2 dX0_mayBe_18 (fun H locs hW => ?_)
    have hW : wv g L σ3 s H locs := by rw [e4]; exact hW
    obtain ⟨hx0, hcs⟩ := lx_s (σ1 := σ3) hx0 hcs (by rw [e4]; exact kp_O)
    refine lv_goto (tgt := 34) hx hb dX0_mayBe_19 (by decide) ?_
    refine lv_iconst (v := 0) hx hb dX0_mayBe_34 (by decide) ?_
    have hs := ww_S hs
    exact vx_ret (wa_i hx hb hr hlocks hx0 hcs hW (congrArg Prod.fst hs) (congrArg Prod.snd hs) dX0_mayBe_35)
  refine lv_aload hx hb dX0_mayBe_0 (lv_at hl 4 rfl) ?_
  refine lv_iconst (v := 0) hx hb dX0_mayBe_2 (by decide) ?_
  refine lv_aload_n hx hb dX0_mayBe_3 rfl (lv_at hl 0 rfl) ?_
  refine lv_iload_n hx hb dX0_mayBe_4 rfl (lv_at hl 1 rfl) ?_
  refine lv_iload_n hx hb dX0_mayBe_5 rfl (lv_at hl 2 rfl) ?_
  refine lv_iload_n hx hb dX0_mayBe_6 rfl (lv_at hl 3 rfl) ?_
  obtain ⟨o7, σ8, hc5, hs⟩ := ww_bn2 hs
  obtain ⟨hkp, hs⟩ := ww_pif hs
  obtain ⟨hx0, hcs⟩ := lx_s hx0 hcs hkp
  rcases o7 with k9 | v10
  · have hs := ww_sL hs
    by_cases hk11 : k9 = 3
    · have hs := ww_T hs hk11
      rw [hk11] at hc5
      obtain ⟨σ13, e14, hs⟩ := ww_let hs
      obtain ⟨hs, hck⟩ := ww_ck2 hs
      have hrm1 := hcs.room (σ1 := σ13) (a := 1) (b := 6) (by rw [e14]; rfl) (by rw [e14]; rfl) hck
      refine ww_catN (hpc := 22) (vx_runV (As := [.int a2, .int a3, .int a4]) (rest := [.int (0 : Int32), .ref (L 100 0)]) ⟨hx, hb, hml, hown, hts⟩ (c_X1_mayBe g hgm l L σ a2 a3 a4 hst _ _ hc5) (cwV 3 hts (lw_V q1517 q1518 q1519 q111 q1520) rfl rfl rfl hd_X1_mayBe ⟨(Nat.le_of_ble_eq_true rfl), (Nat.le_of_ble_eq_true rfl)⟩) (ww_preV hW (pr_st (hW.rd hgm) (Nat.le_of_ble_eq_true rfl)) (obv_0 rfl) rfl) rfl rfl hl.1 rfl (lv_room (Nat.le_of_ble_eq_true rfl)) dX0_mayBe_7 hrm1) no_i hW (fun H1 locs1 q ce cells1 slots1 h1 h2 h3 kk => vx_catch (own := RX0) (name := exN 3) hown [] ⟨0, 19, 22, 52⟩ [⟨0, 19, 26, 13⟩, ⟨0, 19, 30, 15⟩] (htab.trans rfl) (fun z hz => by cases hz) rfl (by decide) (hts _ q1186) (va_Nw.use rfl (hW.nw 55 rfl)) h1 h2 h3 kk) (fun H locs q12 hW => ?_)
      rw [← e14] at hW
      have hx0 : lext L0 σ0 L σ13 := by rw [e14]; exact hx0.trans lext_bX
      have hcs := hcs.more (σ1 := σ13) (a := 1) (b := 6) (by rw [e14]; rfl) (by rw [e14]; rfl)
      have hrm := hrm1
      refine lv_astore (lv' := [(5, .ref q12), (0, .ref (L 1 0)), (1, .int a2), (2, .int a3), (3, .int a4), (4, .ref (L 100 0))]) hx hb dX0_mayBe_22 hl (by decide) rfl (fun ls hl => ?_)
      refine lv_iconst (v := 1) hx hb dX0_mayBe_24 (by decide) ?_
      have hs := ww_S hs
      exact vx_ret (wa_i hx hb hr hlocks hx0 hcs hW (congrArg Prod.fst hs) (congrArg Prod.snd hs) dX0_mayBe_25)
    · have hs := ww_F hs hk11
      by_cases hk15 : k9 = 0
      · have hs := ww_T hs hk15
        rw [hk15] at hc5
        obtain ⟨σ17, e18, hs⟩ := ww_let hs
        obtain ⟨hs, hck⟩ := ww_ck2 hs
        have hrm1 := hcs.room (σ1 := σ17) (a := 1) (b := 6) (by rw [e18]; rfl) (by rw [e18]; rfl) hck
        refine ww_catN (hpc := 26) (vx_runV (As := [.int a2, .int a3, .int a4]) (rest := [.int (0 : Int32), .ref (L 100 0)]) ⟨hx, hb, hml, hown, hts⟩ (c_X1_mayBe g hgm l L σ a2 a3 a4 hst _ _ hc5) (cwV 3 hts (lw_V q1517 q1518 q1519 q111 q1520) rfl rfl rfl hd_X1_mayBe ⟨(Nat.le_of_ble_eq_true rfl), (Nat.le_of_ble_eq_true rfl)⟩) (ww_preV hW (pr_st (hW.rd hgm) (Nat.le_of_ble_eq_true rfl)) (obv_0 rfl) rfl) rfl rfl hl.1 rfl (lv_room (Nat.le_of_ble_eq_true rfl)) dX0_mayBe_7 hrm1) no_i hW (fun H1 locs1 q ce cells1 slots1 h1 h2 h3 kk => vx_catch (own := RX0) (name := exN 0) hown [⟨0, 19, 22, 52⟩] ⟨0, 19, 26, 13⟩ [⟨0, 19, 30, 15⟩] (htab.trans rfl) (fun z hz => by simp only [List.mem_cons, List.not_mem_nil, or_false] at hz; rcases hz with rfl <;> first | exact Or.inr ⟨by decide, _, hts _ q1186, hW.1.2.2.2.2.2.2.2.2.2.2.2.2.2.2.2 0 3 (by decide) (by decide) (by decide)⟩) rfl (by decide) (hts _ q737) (va_Nw.use rfl (hW.nw 41 rfl)) h1 h2 h3 kk) (fun H locs q16 hW => ?_)
        rw [← e18] at hW
        have hx0 : lext L0 σ0 L σ17 := by rw [e18]; exact hx0.trans lext_bX
        have hcs := hcs.more (σ1 := σ17) (a := 1) (b := 6) (by rw [e18]; rfl) (by rw [e18]; rfl)
        have hrm := hrm1
        refine lv_astore (lv' := [(5, .ref q16), (0, .ref (L 1 0)), (1, .int a2), (2, .int a3), (3, .int a4), (4, .ref (L 100 0))]) hx hb dX0_mayBe_26 hl (by decide) rfl (fun ls hl => ?_)
        refine lv_iconst (v := 2) hx hb dX0_mayBe_28 (by decide) ?_
        have hs := ww_S hs
        exact vx_ret (wa_i hx hb hr hlocks hx0 hcs hW (congrArg Prod.fst hs) (congrArg Prod.snd hs) dX0_mayBe_29)
      · have hs := ww_F hs hk15
        by_cases hk19 : k9 = 1
        · have hs := ww_T hs hk19
          rw [hk19] at hc5
          obtain ⟨σ21, e22, hs⟩ := ww_let hs
          obtain ⟨hs, hck⟩ := ww_ck2 hs
          have hrm1 := hcs.room (σ1 := σ21) (a := 1) (b := 6) (by rw [e22]; rfl) (by rw [e22]; rfl) hck
          refine ww_catN (hpc := 30) (vx_runV (As := [.int a2, .int a3, .int a4]) (rest := [.int (0 : Int32), .ref (L 100 0)]) ⟨hx, hb, hml, hown, hts⟩ (c_X1_mayBe g hgm l L σ a2 a3 a4 hst _ _ hc5) (cwV 3 hts (lw_V q1517 q1518 q1519 q111 q1520) rfl rfl rfl hd_X1_mayBe ⟨(Nat.le_of_ble_eq_true rfl), (Nat.le_of_ble_eq_true rfl)⟩) (ww_preV hW (pr_st (hW.rd hgm) (Nat.le_of_ble_eq_true rfl)) (obv_0 rfl) rfl) rfl rfl hl.1 rfl (lv_room (Nat.le_of_ble_eq_true rfl)) dX0_mayBe_7 hrm1) no_i hW (fun H1 locs1 q ce cells1 slots1 h1 h2 h3 kk => vx_catch (own := RX0) (name := exN 1) hown [⟨0, 19, 22, 52⟩, ⟨0, 19, 26, 13⟩] ⟨0, 19, 30, 15⟩ [] (htab.trans rfl) (fun z hz => by simp only [List.mem_cons, List.not_mem_nil, or_false] at hz; rcases hz with rfl | rfl <;> first | exact Or.inr ⟨by decide, _, hts _ q1186, hW.1.2.2.2.2.2.2.2.2.2.2.2.2.2.2.2 1 3 (by decide) (by decide) (by decide)⟩ | exact Or.inr ⟨by decide, _, hts _ q737, hW.1.2.2.2.2.2.2.2.2.2.2.2.2.2.2.2 1 0 (by decide) (by decide) (by decide)⟩) rfl (by decide) (hts _ q815) (va_Nw.use rfl (hW.nw 42 rfl)) h1 h2 h3 kk) (fun H locs q20 hW => ?_)
          rw [← e22] at hW
          have hx0 : lext L0 σ0 L σ21 := by rw [e22]; exact hx0.trans lext_bX
          have hcs := hcs.more (σ1 := σ21) (a := 1) (b := 6) (by rw [e22]; rfl) (by rw [e22]; rfl)
          have hrm := hrm1
          refine lv_astore (lv' := [(5, .ref q20), (0, .ref (L 1 0)), (1, .int a2), (2, .int a3), (3, .int a4), (4, .ref (L 100 0))]) hx hb dX0_mayBe_30 hl (by decide) rfl (fun ls hl => ?_)
          refine lv_iconst (v := 3) hx hb dX0_mayBe_32 (by decide) ?_
          have hs := ww_S hs
          exact vx_ret (wa_i hx hb hr hlocks hx0 hcs hW (congrArg Prod.fst hs) (congrArg Prod.snd hs) dX0_mayBe_33)
        · have hs := ww_F hs hk19
          cases hs
  · have hs := ww_sR hs
    refine ww_xi0 (vx_runV (As := [.int a2, .int a3, .int a4]) (rest := [.int (0 : Int32), .ref (L 100 0)]) ⟨hx, hb, hml, hown, hts⟩ (c_X1_mayBe g hgm l L σ a2 a3 a4 hst _ _ hc5) (cwV 3 hts (lw_V q1517 q1518 q1519 q111 q1520) rfl rfl rfl hd_X1_mayBe ⟨(Nat.le_of_ble_eq_true rfl), (Nat.le_of_ble_eq_true rfl)⟩) (ww_preV hW (pr_st (hW.rd hgm) (Nat.le_of_ble_eq_true rfl)) (obv_0 rfl) rfl) rfl rfl hl.1 rfl (lv_room (Nat.le_of_ble_eq_true rfl)) dX0_mayBe_7 hrm) hW (fun H locs hW => ?_)
    refine lv_if_eq (tgt := 17) hx hb dX0_mayBe_10 (by decide) (fun hc23 => ?_) (fun hc23 => ?_)
    · have hs := ww_T hs hc23
      refine lv_lconst (v := 0) hx hb dX0_mayBe_17 (by decide) ?_
      exact hL18 L σ8 (0 : Int32) (0 : Int64) _ _ _ _ ls hx0 hcs hrm hW (lv_sub hl [] rfl) hs
    · have hs := ww_F hs hc23
      refine lv_lconst (v := 1) hx hb dX0_mayBe_13 (by decide) ?_
      refine lv_goto (tgt := 18) hx hb dX0_mayBe_14 (by decide) ?_
      exact hL18 L σ8 (0 : Int32) (1 : Int64) _ _ _ _ ls hx0 hcs hrm hW (lv_sub hl [] rfl) hs
set_option maxHeartbeats 4000000 in
theorem c_X0_spots (g : wg_T) (hgm : gm g = true) (l : Launch) (L : ly_T) (σ : st_T) (a2 : Int32) (a3 : Int32) (hst : l.stackTraces = false) (r_ : Int32) (σ_ : st_T) (hs : m_X0_spots σ a2 a3 = some (r_, σ_)) : AI g l yX0_spots (wsW_ yX0_spots cX0_spots 5 (some .int) [(0, 10, 13, 52), (0, 10, 17, 15)]) 11 208 [.ref (L 1 0), .int a2, .int a3, .ref (L 100 0)] L σ r_ σ_ := by
  refine hbody.metN (by decide) (Nat.le_of_ble_eq_true rfl) ?_
  intro p e s m args below meth c ls hx hb hr hml hlocks hts hown hnm htab hW hl
  have hown : s.vm.findClass RX0 = some m.cls := hown
  obtain ⟨L0, hL0⟩ : ∃ L0, L0 = L := ⟨_, rfl⟩
  obtain ⟨σ0, hσ0⟩ : ∃ σ0, σ0 = σ := ⟨_, rfl⟩
  rw [← hσ0, ← hL0]
  have hx0 : lext L0 σ0 L σ := by rw [hL0, hσ0]; exact lext.refl
  have hcs : bk σ0 σ 0 0 := bk.start hσ0
  have hrm : 0 ≤ cu_ σ_ - cu_ σ0 ∧ 0 ≤ su_ σ_ - su_ σ0 := ⟨Nat.zero_le _, Nat.zero_le _⟩
  have hl : lv_has ls 5 [(0, .ref (L 1 0)), (1, .int a2), (2, .int a3), (3, .ref (L 100 0))] := hl
  unfold m_X0_spots at hs
  refine lv_aload_n hx hb dX0_spots_0 rfl (lv_at hl 3 rfl) ?_
  refine lv_iconst (v := 0) hx hb dX0_spots_1 (by decide) ?_
  refine lv_aload_n hx hb dX0_spots_2 rfl (lv_at hl 0 rfl) ?_
  refine lv_iload_n hx hb dX0_spots_3 rfl (lv_at hl 1 rfl) ?_
  refine lv_iload_n hx hb dX0_spots_4 rfl (lv_at hl 2 rfl) ?_
  obtain ⟨o3, σ4, hc1, hs⟩ := ww_bn2 hs
  obtain ⟨hkp, hs⟩ := ww_pif hs
  obtain ⟨hx0, hcs⟩ := lx_s hx0 hcs hkp
  rcases o3 with k5 | v6
  · have hs := ww_sL hs
    by_cases hk7 : k5 = 3
    · have hs := ww_T hs hk7
      rw [hk7] at hc1
      obtain ⟨σ9, e10, hs⟩ := ww_let hs
      obtain ⟨hs, hck⟩ := ww_ck2 hs
      have hrm1 := hcs.room (σ1 := σ9) (a := 1) (b := 6) (by rw [e10]; rfl) (by rw [e10]; rfl) hck
      refine ww_catN (hpc := 13) (vx_runV (As := [.int a2, .int a3]) (rest := [.int (0 : Int32), .ref (L 100 0)]) ⟨hx, hb, hml, hown, hts⟩ (c_X1_spots g hgm l L σ a2 a3 hst _ _ hc1) (cwV 2 hts (lw_V q1524 q1525 q1526 q111 q1527) rfl rfl rfl hd_X1_spots ⟨(Nat.le_of_ble_eq_true rfl), (Nat.le_of_ble_eq_true rfl)⟩) (ww_preV hW (pr_st (hW.rd hgm) (Nat.le_of_ble_eq_true rfl)) (obv_0 rfl) rfl) rfl rfl hl.1 rfl (lv_room (Nat.le_of_ble_eq_true rfl)) dX0_spots_5 hrm1) no_i hW (fun H1 locs1 q ce cells1 slots1 h1 h2 h3 kk => vx_catch (own := RX0) (name := exN 3) hown [] ⟨0, 10, 13, 52⟩ [⟨0, 10, 17, 15⟩] (htab.trans rfl) (fun z hz => by cases hz) rfl (by decide) (hts _ q1186) (va_Nw.use rfl (hW.nw 55 rfl)) h1 h2 h3 kk) (fun H locs q8 hW => ?_)
      rw [← e10] at hW
      have hx0 : lext L0 σ0 L σ9 := by rw [e10]; exact hx0.trans lext_bX
      have hcs := hcs.more (σ1 := σ9) (a := 1) (b := 6) (by rw [e10]; rfl) (by rw [e10]; rfl)
      have hrm := hrm1
      refine lv_astore (lv' := [(4, .ref q8), (0, .ref (L 1 0)), (1, .int a2), (2, .int a3), (3, .ref (L 100 0))]) hx hb dX0_spots_13 hl (by decide) rfl (fun ls hl => ?_)
      refine lv_iconst (v := 1) hx hb dX0_spots_15 (by decide) ?_
      have hs := ww_S hs
      exact vx_ret (wa_i hx hb hr hlocks hx0 hcs hW (congrArg Prod.fst hs) (congrArg Prod.snd hs) dX0_spots_16)
    · have hs := ww_F hs hk7
      by_cases hk11 : k5 = 1
      · have hs := ww_T hs hk11
        rw [hk11] at hc1
        obtain ⟨σ13, e14, hs⟩ := ww_let hs
        obtain ⟨hs, hck⟩ := ww_ck2 hs
        have hrm1 := hcs.room (σ1 := σ13) (a := 1) (b := 6) (by rw [e14]; rfl) (by rw [e14]; rfl) hck
        refine ww_catN (hpc := 17) (vx_runV (As := [.int a2, .int a3]) (rest := [.int (0 : Int32), .ref (L 100 0)]) ⟨hx, hb, hml, hown, hts⟩ (c_X1_spots g hgm l L σ a2 a3 hst _ _ hc1) (cwV 2 hts (lw_V q1524 q1525 q1526 q111 q1527) rfl rfl rfl hd_X1_spots ⟨(Nat.le_of_ble_eq_true rfl), (Nat.le_of_ble_eq_true rfl)⟩) (ww_preV hW (pr_st (hW.rd hgm) (Nat.le_of_ble_eq_true rfl)) (obv_0 rfl) rfl) rfl rfl hl.1 rfl (lv_room (Nat.le_of_ble_eq_true rfl)) dX0_spots_5 hrm1) no_i hW (fun H1 locs1 q ce cells1 slots1 h1 h2 h3 kk => vx_catch (own := RX0) (name := exN 1) hown [⟨0, 10, 13, 52⟩] ⟨0, 10, 17, 15⟩ [] (htab.trans rfl) (fun z hz => by simp only [List.mem_cons, List.not_mem_nil, or_false] at hz; rcases hz with rfl <;> first | exact Or.inr ⟨by decide, _, hts _ q1186, hW.1.2.2.2.2.2.2.2.2.2.2.2.2.2.2.2 1 3 (by decide) (by decide) (by decide)⟩) rfl (by decide) (hts _ q815) (va_Nw.use rfl (hW.nw 42 rfl)) h1 h2 h3 kk) (fun H locs q12 hW => ?_)
        rw [← e14] at hW
        have hx0 : lext L0 σ0 L σ13 := by rw [e14]; exact hx0.trans lext_bX
        have hcs := hcs.more (σ1 := σ13) (a := 1) (b := 6) (by rw [e14]; rfl) (by rw [e14]; rfl)
        have hrm := hrm1
        refine lv_astore (lv' := [(4, .ref q12), (0, .ref (L 1 0)), (1, .int a2), (2, .int a3), (3, .ref (L 100 0))]) hx hb dX0_spots_17 hl (by decide) rfl (fun ls hl => ?_)
        refine lv_iconst (v := 2) hx hb dX0_spots_19 (by decide) ?_
        have hs := ww_S hs
        exact vx_ret (wa_i hx hb hr hlocks hx0 hcs hW (congrArg Prod.fst hs) (congrArg Prod.snd hs) dX0_spots_20)
      · have hs := ww_F hs hk11
        cases hs
  · have hs := ww_sR hs
    refine ww_xi0 (vx_runV (As := [.int a2, .int a3]) (rest := [.int (0 : Int32), .ref (L 100 0)]) ⟨hx, hb, hml, hown, hts⟩ (c_X1_spots g hgm l L σ a2 a3 hst _ _ hc1) (cwV 2 hts (lw_V q1524 q1525 q1526 q111 q1527) rfl rfl rfl hd_X1_spots ⟨(Nat.le_of_ble_eq_true rfl), (Nat.le_of_ble_eq_true rfl)⟩) (ww_preV hW (pr_st (hW.rd hgm) (Nat.le_of_ble_eq_true rfl)) (obv_0 rfl) rfl) rfl rfl hl.1 rfl (lv_room (Nat.le_of_ble_eq_true rfl)) dX0_spots_5 hrm) hW (fun H locs hW => ?_)
    refine lv_i2l hx hb dX0_spots_8 rfl ?_
    obtain ⟨hc15, hs⟩ := ww_chk hs
    obtain ⟨σ16, e17, hs⟩ := ww_let hs
    refine ww_last hx hb hW hc15 (j := (0 : Int32)) rfl dX0_spots_9 (fun H locs hW => ?_)
    have hW : wv g L σ16 s H locs := by rw [e17]; exact hW
    obtain ⟨hx0, hcs⟩ := lx_s (σ1 := σ16) hx0 hcs (by rw [e17]; exact kp_O)
    refine lv_goto (tgt := 21) hx hb dX0_spots_10 (by decide) ?_
    refine lv_iconst (v := 0) hx hb dX0_spots_21 (by decide) ?_
    have hs := ww_S hs
    exact vx_ret (wa_i hx hb hr hlocks hx0 hcs hW (congrArg Prod.fst hs) (congrArg Prod.snd hs) dX0_spots_22)
set_option maxHeartbeats 4000000 in
theorem c_X0_wire (g : wg_T) (hgm : gm g = true) (l : Launch) (L : ly_T) (σ : st_T) (a2 : Int32) (a3 : Int32) (a4 : Int32) (hst : l.stackTraces = false) (r_ : Int32) (σ_ : st_T) (hs : m_X0_wire σ a2 a3 a4 = some (r_, σ_)) : AI g l yX0_wire (wsW_ yX0_wire cX0_wire 6 (some .int) [(0, 12, 15, 13), (0, 12, 19, 15)]) 17 523 [.ref (L 1 0), .int a2, .int a3, .int a4, .ref (L 100 0)] L σ r_ σ_ := by
  refine hbody.metN (by decide) (Nat.le_of_ble_eq_true rfl) ?_
  intro p e s m args below meth c ls hx hb hr hml hlocks hts hown hnm htab hW hl
  have hown : s.vm.findClass RX0 = some m.cls := hown
  obtain ⟨L0, hL0⟩ : ∃ L0, L0 = L := ⟨_, rfl⟩
  obtain ⟨σ0, hσ0⟩ : ∃ σ0, σ0 = σ := ⟨_, rfl⟩
  rw [← hσ0, ← hL0]
  have hx0 : lext L0 σ0 L σ := by rw [hL0, hσ0]; exact lext.refl
  have hcs : bk σ0 σ 0 0 := bk.start hσ0
  have hrm : 0 ≤ cu_ σ_ - cu_ σ0 ∧ 0 ≤ su_ σ_ - su_ σ0 := ⟨Nat.zero_le _, Nat.zero_le _⟩
  have hl : lv_has ls 6 [(0, .ref (L 1 0)), (1, .int a2), (2, .int a3), (3, .int a4), (4, .ref (L 100 0))] := hl
  unfold m_X0_wire at hs
  refine lv_aload hx hb dX0_wire_0 (lv_at hl 4 rfl) ?_
  refine lv_iconst (v := 0) hx hb dX0_wire_2 (by decide) ?_
  refine lv_aload_n hx hb dX0_wire_3 rfl (lv_at hl 0 rfl) ?_
  refine lv_iload_n hx hb dX0_wire_4 rfl (lv_at hl 1 rfl) ?_
  refine lv_iload_n hx hb dX0_wire_5 rfl (lv_at hl 2 rfl) ?_
  refine lv_iload_n hx hb dX0_wire_6 rfl (lv_at hl 3 rfl) ?_
  obtain ⟨o3, σ4, hc1, hs⟩ := ww_bn2 hs
  have hl : lv_has ls 6 [] := lv_sub hl [] rfl
  obtain ⟨hc7, hs⟩ := ww_chk hs
  have hp8 : pr σ 100 0 := (pr_dy hc7 rfl rfl)
  obtain ⟨hc9, hs⟩ := ww_chk hs
  obtain ⟨hs, hck⟩ := ww_ck2 hs
  have hrm1 := hcs.roomC hc9 hck
  rcases o3 with k5 | v6
  · have hs := ww_sL hs
    by_cases hk10 : k5 = 0
    · have hs := ww_T hs hk10
      rw [hk10] at hc1
      refine ww_catA (hpc := 15) (vx_runV (As := [.int a2, .int a3, .int a4]) (rest := [.int (0 : Int32), .ref (L 100 0)]) ⟨hx, hb, hml, hown, hts⟩ (c_X1_wire g hgm l L σ a2 a3 a4 hst _ _ hc1) (cwV 3 hts (lw_V q1531 q1532 q1533 q111 q1534) rfl rfl rfl hd_X1_wire ⟨(Nat.le_of_ble_eq_true rfl), (Nat.le_of_ble_eq_true rfl)⟩) (ww_preV hW (pr_st (hW.rd hgm) (Nat.le_of_ble_eq_true rfl)) (obv_0 rfl) rfl) rfl rfl hl.1 rfl (lv_room (Nat.le_of_ble_eq_true rfl)) dX0_wire_7 hrm1) noA_i hW (fun H1 locs1 q ce cells1 slots1 h1 h2 h3 kk => vx_catch (own := RX0) (name := exN 0) hown [] ⟨0, 12, 15, 13⟩ [⟨0, 12, 19, 15⟩] (htab.trans rfl) (fun z hz => by cases hz) rfl (by decide) (hts _ q737) (va_Nw.use rfl (hW.nw 41 rfl)) h1 h2 h3 kk) (fun H locs L q11 hx1 hW => ?_)
      have hc12 : 0 < gN_ σ4 100 := Nat.lt_of_lt_of_le hc7 (hx1.2.1 100)
      have hcs := hcs.call hc9
      have hrm := hrm1
      have hx0 := hx0.trans hx1
      refine lv_astore (lv' := [(5, .ref q11)]) hx hb dX0_wire_15 hl (by decide) rfl (fun ls hl => ?_)
      refine lv_iconst (v := 1) hx hb dX0_wire_17 (by decide) ?_
      have hs := ww_S hs
      exact vx_ret (wa_i hx hb hr hlocks hx0 hcs hW (congrArg Prod.fst hs) (congrArg Prod.snd hs) dX0_wire_18)
    · have hs := ww_F hs hk10
      by_cases hk13 : k5 = 1
      · have hs := ww_T hs hk13
        rw [hk13] at hc1
        refine ww_catA (hpc := 19) (vx_runV (As := [.int a2, .int a3, .int a4]) (rest := [.int (0 : Int32), .ref (L 100 0)]) ⟨hx, hb, hml, hown, hts⟩ (c_X1_wire g hgm l L σ a2 a3 a4 hst _ _ hc1) (cwV 3 hts (lw_V q1531 q1532 q1533 q111 q1534) rfl rfl rfl hd_X1_wire ⟨(Nat.le_of_ble_eq_true rfl), (Nat.le_of_ble_eq_true rfl)⟩) (ww_preV hW (pr_st (hW.rd hgm) (Nat.le_of_ble_eq_true rfl)) (obv_0 rfl) rfl) rfl rfl hl.1 rfl (lv_room (Nat.le_of_ble_eq_true rfl)) dX0_wire_7 hrm1) noA_i hW (fun H1 locs1 q ce cells1 slots1 h1 h2 h3 kk => vx_catch (own := RX0) (name := exN 1) hown [⟨0, 12, 15, 13⟩] ⟨0, 12, 19, 15⟩ [] (htab.trans rfl) (fun z hz => by simp only [List.mem_cons, List.not_mem_nil, or_false] at hz; rcases hz with rfl <;> first | exact Or.inr ⟨by decide, _, hts _ q737, hW.1.2.2.2.2.2.2.2.2.2.2.2.2.2.2.2 1 0 (by decide) (by decide) (by decide)⟩) rfl (by decide) (hts _ q815) (va_Nw.use rfl (hW.nw 42 rfl)) h1 h2 h3 kk) (fun H locs L q14 hx1 hW => ?_)
        have hc15 : 0 < gN_ σ4 100 := Nat.lt_of_lt_of_le hc7 (hx1.2.1 100)
        have hcs := hcs.call hc9
        have hrm := hrm1
        have hx0 := hx0.trans hx1
        refine lv_astore (lv' := [(5, .ref q14)]) hx hb dX0_wire_19 hl (by decide) rfl (fun ls hl => ?_)
        refine lv_iconst (v := 2) hx hb dX0_wire_21 (by decide) ?_
        have hs := ww_S hs
        exact vx_ret (wa_i hx hb hr hlocks hx0 hcs hW (congrArg Prod.fst hs) (congrArg Prod.snd hs) dX0_wire_22)
      · have hs := ww_F hs hk13
        cases hs
  · have hs := ww_sR hs
    refine wz_ci (vx_runV (As := [.int a2, .int a3, .int a4]) (rest := [.int (0 : Int32), .ref (L 100 0)]) ⟨hx, hb, hml, hown, hts⟩ (c_X1_wire g hgm l L σ a2 a3 a4 hst _ _ hc1) (cwV 3 hts (lw_V q1531 q1532 q1533 q111 q1534) rfl rfl rfl hd_X1_wire ⟨(Nat.le_of_ble_eq_true rfl), (Nat.le_of_ble_eq_true rfl)⟩) (ww_preV hW (pr_st (hW.rd hgm) (Nat.le_of_ble_eq_true rfl)) (obv_0 rfl) rfl) rfl rfl hl.1 rfl (lv_room (Nat.le_of_ble_eq_true rfl)) dX0_wire_7 hrm1) hW (fun H locs L hx1 hW => ?_)
    have hc16 : 0 < gN_ σ4 100 := Nat.lt_of_lt_of_le hc7 (hx1.2.1 100)
    have hcs := hcs.call hc9
    have hrm := hrm1
    refine ww_stk (st1 := [.int v6, .int (0 : Int32), .ref (L 100 0)]) (by rw [hx1.at hp8 (by decide)]) ?_
    have hx0 := hx0.trans hx1
    refine lv_i2l hx hb dX0_wire_10 rfl ?_
    obtain ⟨hc17, hs⟩ := ww_chk hs
    obtain ⟨σ18, e19, hs⟩ := ww_let hs
    refine ww_last hx hb hW hc17 (j := (0 : Int32)) rfl dX0_wire_11 (fun H locs hW => ?_)
    have hW : wv g L σ18 s H locs := by rw [e19]; exact hW
    obtain ⟨hx0, hcs⟩ := lx_s (σ1 := σ18) hx0 hcs (by rw [e19]; exact kp_O)
    have hc20 : 0 < gN_ σ18 100 := by rw [e19]; exact hc16
    refine lv_goto (tgt := 23) hx hb dX0_wire_12 (by decide) ?_
    refine lv_iconst (v := 0) hx hb dX0_wire_23 (by decide) ?_
    have hs := ww_S hs
    exact vx_ret (wa_i hx hb hr hlocks hx0 hcs hW (congrArg Prod.fst hs) (congrArg Prod.snd hs) dX0_wire_24)
set_option maxHeartbeats 4000000 in
theorem c_X0_wind (g : wg_T) (hgm : gm g = true) (l : Launch) (L : ly_T) (σ : st_T) (a2 : Int32) (a3 : Int32) (hst : l.stackTraces = false) (r_ : Int32) (σ_ : st_T) (hs : m_X0_wind σ a2 a3 = some (r_, σ_)) : AI g l yX0_wind (wsW_ yX0_wind cX0_wind 5 (some .int) [(0, 10, 13, 15)]) 11 204 [.ref (L 1 0), .int a2, .int a3, .ref (L 100 0)] L σ r_ σ_ := by
  refine hbody.metN (by decide) (Nat.le_of_ble_eq_true rfl) ?_
  intro p e s m args below meth c ls hx hb hr hml hlocks hts hown hnm htab hW hl
  have hown : s.vm.findClass RX0 = some m.cls := hown
  obtain ⟨L0, hL0⟩ : ∃ L0, L0 = L := ⟨_, rfl⟩
  obtain ⟨σ0, hσ0⟩ : ∃ σ0, σ0 = σ := ⟨_, rfl⟩
  rw [← hσ0, ← hL0]
  have hx0 : lext L0 σ0 L σ := by rw [hL0, hσ0]; exact lext.refl
  have hcs : bk σ0 σ 0 0 := bk.start hσ0
  have hrm : 0 ≤ cu_ σ_ - cu_ σ0 ∧ 0 ≤ su_ σ_ - su_ σ0 := ⟨Nat.zero_le _, Nat.zero_le _⟩
  have hl : lv_has ls 5 [(0, .ref (L 1 0)), (1, .int a2), (2, .int a3), (3, .ref (L 100 0))] := hl
  unfold m_X0_wind at hs
  refine lv_aload_n hx hb dX0_wind_0 rfl (lv_at hl 3 rfl) ?_
  refine lv_iconst (v := 0) hx hb dX0_wind_1 (by decide) ?_
  refine lv_aload_n hx hb dX0_wind_2 rfl (lv_at hl 0 rfl) ?_
  refine lv_iload_n hx hb dX0_wind_3 rfl (lv_at hl 1 rfl) ?_
  refine lv_iload_n hx hb dX0_wind_4 rfl (lv_at hl 2 rfl) ?_
  obtain ⟨o3, σ4, hc1, hs⟩ := ww_bn2 hs
  obtain ⟨hkp, hs⟩ := ww_pif hs
  obtain ⟨hx0, hcs⟩ := lx_s hx0 hcs hkp
  rcases o3 with k5 | v6
  · have hs := ww_sL hs
    by_cases hk7 : k5 = 1
    · have hs := ww_T hs hk7
      rw [hk7] at hc1
      obtain ⟨σ9, e10, hs⟩ := ww_let hs
      obtain ⟨hs, hck⟩ := ww_ck2 hs
      have hrm1 := hcs.room (σ1 := σ9) (a := 1) (b := 6) (by rw [e10]; rfl) (by rw [e10]; rfl) hck
      refine ww_catN (hpc := 13) (vx_runV (As := [.int a2, .int a3]) (rest := [.int (0 : Int32), .ref (L 100 0)]) ⟨hx, hb, hml, hown, hts⟩ (c_X1_wind g hgm l L σ a2 a3 hst _ _ hc1) (cwV 2 hts (lw_V q1557 q1558 q1559 q111 q1560) rfl rfl rfl hd_X1_wind ⟨(Nat.le_of_ble_eq_true rfl), (Nat.le_of_ble_eq_true rfl)⟩) (ww_preV hW (pr_st (hW.rd hgm) (Nat.le_of_ble_eq_true rfl)) (obv_0 rfl) rfl) rfl rfl hl.1 rfl (lv_room (Nat.le_of_ble_eq_true rfl)) dX0_wind_5 hrm1) no_i hW (fun H1 locs1 q ce cells1 slots1 h1 h2 h3 kk => vx_catch (own := RX0) (name := exN 1) hown [] ⟨0, 10, 13, 15⟩ [] (htab.trans rfl) (fun z hz => by cases hz) rfl (by decide) (hts _ q815) (va_Nw.use rfl (hW.nw 42 rfl)) h1 h2 h3 kk) (fun H locs q8 hW => ?_)
      rw [← e10] at hW
      have hx0 : lext L0 σ0 L σ9 := by rw [e10]; exact hx0.trans lext_bX
      have hcs := hcs.more (σ1 := σ9) (a := 1) (b := 6) (by rw [e10]; rfl) (by rw [e10]; rfl)
      have hrm := hrm1
      refine lv_astore (lv' := [(4, .ref q8), (0, .ref (L 1 0)), (1, .int a2), (2, .int a3), (3, .ref (L 100 0))]) hx hb dX0_wind_13 hl (by decide) rfl (fun ls hl => ?_)
      refine lv_iconst (v := 1) hx hb dX0_wind_15 (by decide) ?_
      have hs := ww_S hs
      exact vx_ret (wa_i hx hb hr hlocks hx0 hcs hW (congrArg Prod.fst hs) (congrArg Prod.snd hs) dX0_wind_16)
    · have hs := ww_F hs hk7
      cases hs
  · have hs := ww_sR hs
    refine ww_xi0 (vx_runV (As := [.int a2, .int a3]) (rest := [.int (0 : Int32), .ref (L 100 0)]) ⟨hx, hb, hml, hown, hts⟩ (c_X1_wind g hgm l L σ a2 a3 hst _ _ hc1) (cwV 2 hts (lw_V q1557 q1558 q1559 q111 q1560) rfl rfl rfl hd_X1_wind ⟨(Nat.le_of_ble_eq_true rfl), (Nat.le_of_ble_eq_true rfl)⟩) (ww_preV hW (pr_st (hW.rd hgm) (Nat.le_of_ble_eq_true rfl)) (obv_0 rfl) rfl) rfl rfl hl.1 rfl (lv_room (Nat.le_of_ble_eq_true rfl)) dX0_wind_5 hrm) hW (fun H locs hW => ?_)
    refine lv_i2l hx hb dX0_wind_8 rfl ?_
    obtain ⟨hc11, hs⟩ := ww_chk hs
    obtain ⟨σ12, e13, hs⟩ := ww_let hs
    refine ww_last hx hb hW hc11 (j := (0 : Int32)) rfl dX0_wind_9 (fun H locs hW => ?_)
    have hW : wv g L σ12 s H locs := by rw [e13]; exact hW
    obtain ⟨hx0, hcs⟩ := lx_s (σ1 := σ12) hx0 hcs (by rw [e13]; exact kp_O)
    refine lv_goto (tgt := 17) hx hb dX0_wind_10 (by decide) ?_
    refine lv_iconst (v := 0) hx hb dX0_wind_17 (by decide) ?_
    have hs := ww_S hs
    exact vx_ret (wa_i hx hb hr hlocks hx0 hcs hW (congrArg Prod.fst hs) (congrArg Prod.snd hs) dX0_wind_18)
set_option maxHeartbeats 4000000 in
theorem c_X0_trip (g : wg_T) (hgm : gm g = true) (l : Launch) (L : ly_T) (σ : st_T) (a2 : Int32) (a3 : Int32) (hst : l.stackTraces = false) (r_ : Int32) (σ_ : st_T) (hs : m_X0_trip σ a2 a3 = some (r_, σ_)) : AI g l yX0_trip (wsW_ yX0_trip cX0_trip 5 (some .int) [(0, 10, 13, 52), (0, 10, 17, 15)]) 17 523 [.ref (L 1 0), .int a2, .int a3, .ref (L 100 0)] L σ r_ σ_ := by
  refine hbody.metN (by decide) (Nat.le_of_ble_eq_true rfl) ?_
  intro p e s m args below meth c ls hx hb hr hml hlocks hts hown hnm htab hW hl
  have hown : s.vm.findClass RX0 = some m.cls := hown
  obtain ⟨L0, hL0⟩ : ∃ L0, L0 = L := ⟨_, rfl⟩
  obtain ⟨σ0, hσ0⟩ : ∃ σ0, σ0 = σ := ⟨_, rfl⟩
  rw [← hσ0, ← hL0]
  have hx0 : lext L0 σ0 L σ := by rw [hL0, hσ0]; exact lext.refl
  have hcs : bk σ0 σ 0 0 := bk.start hσ0
  have hrm : 0 ≤ cu_ σ_ - cu_ σ0 ∧ 0 ≤ su_ σ_ - su_ σ0 := ⟨Nat.zero_le _, Nat.zero_le _⟩
  have hl : lv_has ls 5 [(0, .ref (L 1 0)), (1, .int a2), (2, .int a3), (3, .ref (L 100 0))] := hl
  unfold m_X0_trip at hs
  refine lv_aload_n hx hb dX0_trip_0 rfl (lv_at hl 3 rfl) ?_
  refine lv_iconst (v := 0) hx hb dX0_trip_1 (by decide) ?_
  refine lv_aload_n hx hb dX0_trip_2 rfl (lv_at hl 0 rfl) ?_
  refine lv_iload_n hx hb dX0_trip_3 rfl (lv_at hl 1 rfl) ?_
  refine lv_iload_n hx hb dX0_trip_4 rfl (lv_at hl 2 rfl) ?_
  obtain ⟨o3, σ4, hc1, hs⟩ := ww_bn2 hs
  have hl : lv_has ls 5 [] := lv_sub hl [] rfl
  obtain ⟨hc7, hs⟩ := ww_chk hs
  have hp8 : pr σ 100 0 := (pr_dy hc7 rfl rfl)
  obtain ⟨hc9, hs⟩ := ww_chk hs
  obtain ⟨hs, hck⟩ := ww_ck2 hs
  have hrm1 := hcs.roomC hc9 hck
  rcases o3 with k5 | v6
  · have hs := ww_sL hs
    by_cases hk10 : k5 = 3
    · have hs := ww_T hs hk10
      rw [hk10] at hc1
      refine ww_catA (hpc := 13) (vx_runV (As := [.int a2, .int a3]) (rest := [.int (0 : Int32), .ref (L 100 0)]) ⟨hx, hb, hml, hown, hts⟩ (c_X1_trip g hgm l L σ a2 a3 hst _ _ hc1) (cwV 2 hts (lw_V q1568 q1569 q1570 q111 q1571) rfl rfl rfl hd_X1_trip ⟨(Nat.le_of_ble_eq_true rfl), (Nat.le_of_ble_eq_true rfl)⟩) (ww_preV hW (pr_st (hW.rd hgm) (Nat.le_of_ble_eq_true rfl)) (obv_0 rfl) rfl) rfl rfl hl.1 rfl (lv_room (Nat.le_of_ble_eq_true rfl)) dX0_trip_5 hrm1) noA_i hW (fun H1 locs1 q ce cells1 slots1 h1 h2 h3 kk => vx_catch (own := RX0) (name := exN 3) hown [] ⟨0, 10, 13, 52⟩ [⟨0, 10, 17, 15⟩] (htab.trans rfl) (fun z hz => by cases hz) rfl (by decide) (hts _ q1186) (va_Nw.use rfl (hW.nw 55 rfl)) h1 h2 h3 kk) (fun H locs L q11 hx1 hW => ?_)
      have hc12 : 0 < gN_ σ4 100 := Nat.lt_of_lt_of_le hc7 (hx1.2.1 100)
      have hcs := hcs.call hc9
      have hrm := hrm1
      have hx0 := hx0.trans hx1
      refine lv_astore (lv' := [(4, .ref q11)]) hx hb dX0_trip_13 hl (by decide) rfl (fun ls hl => ?_)
      refine lv_iconst (v := 1) hx hb dX0_trip_15 (by decide) ?_
      have hs := ww_S hs
      exact vx_ret (wa_i hx hb hr hlocks hx0 hcs hW (congrArg Prod.fst hs) (congrArg Prod.snd hs) dX0_trip_16)
    · have hs := ww_F hs hk10
      by_cases hk13 : k5 = 1
      · have hs := ww_T hs hk13
        rw [hk13] at hc1
        refine ww_catA (hpc := 17) (vx_runV (As := [.int a2, .int a3]) (rest := [.int (0 : Int32), .ref (L 100 0)]) ⟨hx, hb, hml, hown, hts⟩ (c_X1_trip g hgm l L σ a2 a3 hst _ _ hc1) (cwV 2 hts (lw_V q1568 q1569 q1570 q111 q1571) rfl rfl rfl hd_X1_trip ⟨(Nat.le_of_ble_eq_true rfl), (Nat.le_of_ble_eq_true rfl)⟩) (ww_preV hW (pr_st (hW.rd hgm) (Nat.le_of_ble_eq_true rfl)) (obv_0 rfl) rfl) rfl rfl hl.1 rfl (lv_room (Nat.le_of_ble_eq_true rfl)) dX0_trip_5 hrm1) noA_i hW (fun H1 locs1 q ce cells1 slots1 h1 h2 h3 kk => vx_catch (own := RX0) (name := exN 1) hown [⟨0, 10, 13, 52⟩] ⟨0, 10, 17, 15⟩ [] (htab.trans rfl) (fun z hz => by simp only [List.mem_cons, List.not_mem_nil, or_false] at hz; rcases hz with rfl <;> first | exact Or.inr ⟨by decide, _, hts _ q1186, hW.1.2.2.2.2.2.2.2.2.2.2.2.2.2.2.2 1 3 (by decide) (by decide) (by decide)⟩) rfl (by decide) (hts _ q815) (va_Nw.use rfl (hW.nw 42 rfl)) h1 h2 h3 kk) (fun H locs L q14 hx1 hW => ?_)
        have hc15 : 0 < gN_ σ4 100 := Nat.lt_of_lt_of_le hc7 (hx1.2.1 100)
        have hcs := hcs.call hc9
        have hrm := hrm1
        have hx0 := hx0.trans hx1
        refine lv_astore (lv' := [(4, .ref q14)]) hx hb dX0_trip_17 hl (by decide) rfl (fun ls hl => ?_)
        refine lv_iconst (v := 2) hx hb dX0_trip_19 (by decide) ?_
        have hs := ww_S hs
        exact vx_ret (wa_i hx hb hr hlocks hx0 hcs hW (congrArg Prod.fst hs) (congrArg Prod.snd hs) dX0_trip_20)
      · have hs := ww_F hs hk13
        cases hs
  · have hs := ww_sR hs
    refine wz_ci (vx_runV (As := [.int a2, .int a3]) (rest := [.int (0 : Int32), .ref (L 100 0)]) ⟨hx, hb, hml, hown, hts⟩ (c_X1_trip g hgm l L σ a2 a3 hst _ _ hc1) (cwV 2 hts (lw_V q1568 q1569 q1570 q111 q1571) rfl rfl rfl hd_X1_trip ⟨(Nat.le_of_ble_eq_true rfl), (Nat.le_of_ble_eq_true rfl)⟩) (ww_preV hW (pr_st (hW.rd hgm) (Nat.le_of_ble_eq_true rfl)) (obv_0 rfl) rfl) rfl rfl hl.1 rfl (lv_room (Nat.le_of_ble_eq_true rfl)) dX0_trip_5 hrm1) hW (fun H locs L hx1 hW => ?_)
    have hc16 : 0 < gN_ σ4 100 := Nat.lt_of_lt_of_le hc7 (hx1.2.1 100)
    have hcs := hcs.call hc9
    have hrm := hrm1
    refine ww_stk (st1 := [.int v6, .int (0 : Int32), .ref (L 100 0)]) (by rw [hx1.at hp8 (by decide)]) ?_
    have hx0 := hx0.trans hx1
    refine lv_i2l hx hb dX0_trip_8 rfl ?_
    obtain ⟨hc17, hs⟩ := ww_chk hs
    obtain ⟨σ18, e19, hs⟩ := ww_let hs
    refine ww_last hx hb hW hc17 (j := (0 : Int32)) rfl dX0_trip_9 (fun H locs hW => ?_)
    have hW : wv g L σ18 s H locs := by rw [e19]; exact hW
    obtain ⟨hx0, hcs⟩ := lx_s (σ1 := σ18) hx0 hcs (by rw [e19]; exact kp_O)
    have hc20 : 0 < gN_ σ18 100 := by rw [e19]; exact hc16
    refine lv_goto (tgt := 21) hx hb dX0_trip_10 (by decide) ?_
    refine lv_iconst (v := 0) hx hb dX0_trip_21 (by decide) ?_
    have hs := ww_S hs
    exact vx_ret (wa_i hx hb hr hlocks hx0 hcs hW (congrArg Prod.fst hs) (congrArg Prod.snd hs) dX0_trip_22)
set_option maxHeartbeats 4000000 in
theorem c_X0_cause (g : wg_T) (hgm : gm g = true) (l : Launch) (L : ly_T) (σ : st_T) (a2 : Int32) (hst : l.stackTraces = false) (r_ : Int32) (σ_ : st_T) (hs : m_X0_cause σ a2 = some (r_, σ_)) : AI g l yX0_cause (wsW_ yX0_cause cX0_cause 4 (some .int) [(0, 9, 12, 52)]) 10 202 [.ref (L 1 0), .int a2, .ref (L 100 0)] L σ r_ σ_ := by
  refine hbody.metN (by decide) (Nat.le_of_ble_eq_true rfl) ?_
  intro p e s m args below meth c ls hx hb hr hml hlocks hts hown hnm htab hW hl
  have hown : s.vm.findClass RX0 = some m.cls := hown
  obtain ⟨L0, hL0⟩ : ∃ L0, L0 = L := ⟨_, rfl⟩
  obtain ⟨σ0, hσ0⟩ : ∃ σ0, σ0 = σ := ⟨_, rfl⟩
  rw [← hσ0, ← hL0]
  have hx0 : lext L0 σ0 L σ := by rw [hL0, hσ0]; exact lext.refl
  have hcs : bk σ0 σ 0 0 := bk.start hσ0
  have hrm : 0 ≤ cu_ σ_ - cu_ σ0 ∧ 0 ≤ su_ σ_ - su_ σ0 := ⟨Nat.zero_le _, Nat.zero_le _⟩
  have hl : lv_has ls 4 [(0, .ref (L 1 0)), (1, .int a2), (2, .ref (L 100 0))] := hl
  unfold m_X0_cause at hs
  refine lv_aload_n hx hb dX0_cause_0 rfl (lv_at hl 2 rfl) ?_
  refine lv_iconst (v := 0) hx hb dX0_cause_1 (by decide) ?_
  refine lv_aload_n hx hb dX0_cause_2 rfl (lv_at hl 0 rfl) ?_
  refine lv_iload_n hx hb dX0_cause_3 rfl (lv_at hl 1 rfl) ?_
  obtain ⟨o3, σ4, hc1, hs⟩ := ww_bn2 hs
  obtain ⟨hkp, hs⟩ := ww_pif hs
  obtain ⟨hx0, hcs⟩ := lx_s hx0 hcs hkp
  rcases o3 with k5 | v6
  · have hs := ww_sL hs
    by_cases hk7 : k5 = 3
    · have hs := ww_T hs hk7
      rw [hk7] at hc1
      obtain ⟨σ9, e10, hs⟩ := ww_let hs
      obtain ⟨hs, hck⟩ := ww_ck2 hs
      have hrm1 := hcs.room (σ1 := σ9) (a := 1) (b := 6) (by rw [e10]; rfl) (by rw [e10]; rfl) hck
      refine ww_catN (hpc := 12) (vx_runV (As := [.int a2]) (rest := [.int (0 : Int32), .ref (L 100 0)]) ⟨hx, hb, hml, hown, hts⟩ (c_X1_cause g hgm l L σ a2 hst _ _ hc1) (cwV 1 hts (lw_V q1594 q1595 q1596 q111 q1597) rfl rfl rfl hd_X1_cause ⟨(Nat.le_of_ble_eq_true rfl), (Nat.le_of_ble_eq_true rfl)⟩) (ww_preV hW (pr_st (hW.rd hgm) (Nat.le_of_ble_eq_true rfl)) (obv_0 rfl) rfl) rfl rfl hl.1 rfl (lv_room (Nat.le_of_ble_eq_true rfl)) dX0_cause_4 hrm1) no_i hW (fun H1 locs1 q ce cells1 slots1 h1 h2 h3 kk => vx_catch (own := RX0) (name := exN 3) hown [] ⟨0, 9, 12, 52⟩ [] (htab.trans rfl) (fun z hz => by cases hz) rfl (by decide) (hts _ q1186) (va_Nw.use rfl (hW.nw 55 rfl)) h1 h2 h3 kk) (fun H locs q8 hW => ?_)
      rw [← e10] at hW
      have hx0 : lext L0 σ0 L σ9 := by rw [e10]; exact hx0.trans lext_bX
      have hcs := hcs.more (σ1 := σ9) (a := 1) (b := 6) (by rw [e10]; rfl) (by rw [e10]; rfl)
      have hrm := hrm1
      refine lv_astore_n (lv' := [(3, .ref q8), (0, .ref (L 1 0)), (1, .int a2), (2, .ref (L 100 0))]) hx hb dX0_cause_12 rfl hl (by decide) rfl (fun ls hl => ?_)
      refine lv_iconst (v := 1) hx hb dX0_cause_13 (by decide) ?_
      have hs := ww_S hs
      exact vx_ret (wa_i hx hb hr hlocks hx0 hcs hW (congrArg Prod.fst hs) (congrArg Prod.snd hs) dX0_cause_14)
    · have hs := ww_F hs hk7
      cases hs
  · have hs := ww_sR hs
    refine ww_xi0 (vx_runV (As := [.int a2]) (rest := [.int (0 : Int32), .ref (L 100 0)]) ⟨hx, hb, hml, hown, hts⟩ (c_X1_cause g hgm l L σ a2 hst _ _ hc1) (cwV 1 hts (lw_V q1594 q1595 q1596 q111 q1597) rfl rfl rfl hd_X1_cause ⟨(Nat.le_of_ble_eq_true rfl), (Nat.le_of_ble_eq_true rfl)⟩) (ww_preV hW (pr_st (hW.rd hgm) (Nat.le_of_ble_eq_true rfl)) (obv_0 rfl) rfl) rfl rfl hl.1 rfl (lv_room (Nat.le_of_ble_eq_true rfl)) dX0_cause_4 hrm) hW (fun H locs hW => ?_)
    refine lv_i2l hx hb dX0_cause_7 rfl ?_
    obtain ⟨hc11, hs⟩ := ww_chk hs
    obtain ⟨σ12, e13, hs⟩ := ww_let hs
    refine ww_last hx hb hW hc11 (j := (0 : Int32)) rfl dX0_cause_8 (fun H locs hW => ?_)
    have hW : wv g L σ12 s H locs := by rw [e13]; exact hW
    obtain ⟨hx0, hcs⟩ := lx_s (σ1 := σ12) hx0 hcs (by rw [e13]; exact kp_O)
    refine lv_goto (tgt := 15) hx hb dX0_cause_9 (by decide) ?_
    refine lv_iconst (v := 0) hx hb dX0_cause_15 (by decide) ?_
    have hs := ww_S hs
    exact vx_ret (wa_i hx hb hr hlocks hx0 hcs hW (congrArg Prod.fst hs) (congrArg Prod.snd hs) dX0_cause_16)
set_option maxHeartbeats 4000000 in
theorem c_X0_causes (g : wg_T) (hgm : gm g = true) (l : Launch) (L : ly_T) (σ : st_T) (a2 : Int32) (a3 : Int32) (hst : l.stackTraces = false) (r_ : Int32) (σ_ : st_T) (hs : m_X0_causes σ a2 a3 = some (r_, σ_)) : AI g l yX0_causes (wsW_ yX0_causes cX0_causes 5 (some .int) [(0, 10, 13, 52), (0, 10, 17, 15)]) 10 206 [.ref (L 1 0), .int a2, .int a3, .ref (L 100 0)] L σ r_ σ_ := by
  refine hbody.metN (by decide) (Nat.le_of_ble_eq_true rfl) ?_
  intro p e s m args below meth c ls hx hb hr hml hlocks hts hown hnm htab hW hl
  have hown : s.vm.findClass RX0 = some m.cls := hown
  obtain ⟨L0, hL0⟩ : ∃ L0, L0 = L := ⟨_, rfl⟩
  obtain ⟨σ0, hσ0⟩ : ∃ σ0, σ0 = σ := ⟨_, rfl⟩
  rw [← hσ0, ← hL0]
  have hx0 : lext L0 σ0 L σ := by rw [hL0, hσ0]; exact lext.refl
  have hcs : bk σ0 σ 0 0 := bk.start hσ0
  have hrm : 0 ≤ cu_ σ_ - cu_ σ0 ∧ 0 ≤ su_ σ_ - su_ σ0 := ⟨Nat.zero_le _, Nat.zero_le _⟩
  have hl : lv_has ls 5 [(0, .ref (L 1 0)), (1, .int a2), (2, .int a3), (3, .ref (L 100 0))] := hl
  unfold m_X0_causes at hs
  refine lv_aload_n hx hb dX0_causes_0 rfl (lv_at hl 3 rfl) ?_
  refine lv_iconst (v := 0) hx hb dX0_causes_1 (by decide) ?_
  refine lv_aload_n hx hb dX0_causes_2 rfl (lv_at hl 0 rfl) ?_
  refine lv_iload_n hx hb dX0_causes_3 rfl (lv_at hl 1 rfl) ?_
  refine lv_iload_n hx hb dX0_causes_4 rfl (lv_at hl 2 rfl) ?_
  obtain ⟨o3, σ4, hc1, hs⟩ := ww_bn2 hs
  obtain ⟨hkp, hs⟩ := ww_pif hs
  obtain ⟨hx0, hcs⟩ := lx_s hx0 hcs hkp
  rcases o3 with k5 | v6
  · have hs := ww_sL hs
    by_cases hk7 : k5 = 3
    · have hs := ww_T hs hk7
      rw [hk7] at hc1
      obtain ⟨σ9, e10, hs⟩ := ww_let hs
      obtain ⟨hs, hck⟩ := ww_ck2 hs
      have hrm1 := hcs.room (σ1 := σ9) (a := 1) (b := 6) (by rw [e10]; rfl) (by rw [e10]; rfl) hck
      refine ww_catN (hpc := 13) (vx_runV (As := [.int a2, .int a3]) (rest := [.int (0 : Int32), .ref (L 100 0)]) ⟨hx, hb, hml, hown, hts⟩ (c_X1_causes g hgm l L σ a2 a3 hst _ _ hc1) (cwV 2 hts (lw_V q1609 q1610 q1611 q111 q1612) rfl rfl rfl hd_X1_causes ⟨(Nat.le_of_ble_eq_true rfl), (Nat.le_of_ble_eq_true rfl)⟩) (ww_preV hW (pr_st (hW.rd hgm) (Nat.le_of_ble_eq_true rfl)) (obv_0 rfl) rfl) rfl rfl hl.1 rfl (lv_room (Nat.le_of_ble_eq_true rfl)) dX0_causes_5 hrm1) no_i hW (fun H1 locs1 q ce cells1 slots1 h1 h2 h3 kk => vx_catch (own := RX0) (name := exN 3) hown [] ⟨0, 10, 13, 52⟩ [⟨0, 10, 17, 15⟩] (htab.trans rfl) (fun z hz => by cases hz) rfl (by decide) (hts _ q1186) (va_Nw.use rfl (hW.nw 55 rfl)) h1 h2 h3 kk) (fun H locs q8 hW => ?_)
      rw [← e10] at hW
      have hx0 : lext L0 σ0 L σ9 := by rw [e10]; exact hx0.trans lext_bX
      have hcs := hcs.more (σ1 := σ9) (a := 1) (b := 6) (by rw [e10]; rfl) (by rw [e10]; rfl)
      have hrm := hrm1
      refine lv_astore (lv' := [(4, .ref q8), (0, .ref (L 1 0)), (1, .int a2), (2, .int a3), (3, .ref (L 100 0))]) hx hb dX0_causes_13 hl (by decide) rfl (fun ls hl => ?_)
      refine lv_iconst (v := 1) hx hb dX0_causes_15 (by decide) ?_
      have hs := ww_S hs
      exact vx_ret (wa_i hx hb hr hlocks hx0 hcs hW (congrArg Prod.fst hs) (congrArg Prod.snd hs) dX0_causes_16)
    · have hs := ww_F hs hk7
      by_cases hk11 : k5 = 1
      · have hs := ww_T hs hk11
        rw [hk11] at hc1
        obtain ⟨σ13, e14, hs⟩ := ww_let hs
        obtain ⟨hs, hck⟩ := ww_ck2 hs
        have hrm1 := hcs.room (σ1 := σ13) (a := 1) (b := 6) (by rw [e14]; rfl) (by rw [e14]; rfl) hck
        refine ww_catN (hpc := 17) (vx_runV (As := [.int a2, .int a3]) (rest := [.int (0 : Int32), .ref (L 100 0)]) ⟨hx, hb, hml, hown, hts⟩ (c_X1_causes g hgm l L σ a2 a3 hst _ _ hc1) (cwV 2 hts (lw_V q1609 q1610 q1611 q111 q1612) rfl rfl rfl hd_X1_causes ⟨(Nat.le_of_ble_eq_true rfl), (Nat.le_of_ble_eq_true rfl)⟩) (ww_preV hW (pr_st (hW.rd hgm) (Nat.le_of_ble_eq_true rfl)) (obv_0 rfl) rfl) rfl rfl hl.1 rfl (lv_room (Nat.le_of_ble_eq_true rfl)) dX0_causes_5 hrm1) no_i hW (fun H1 locs1 q ce cells1 slots1 h1 h2 h3 kk => vx_catch (own := RX0) (name := exN 1) hown [⟨0, 10, 13, 52⟩] ⟨0, 10, 17, 15⟩ [] (htab.trans rfl) (fun z hz => by simp only [List.mem_cons, List.not_mem_nil, or_false] at hz; rcases hz with rfl <;> first | exact Or.inr ⟨by decide, _, hts _ q1186, hW.1.2.2.2.2.2.2.2.2.2.2.2.2.2.2.2 1 3 (by decide) (by decide) (by decide)⟩) rfl (by decide) (hts _ q815) (va_Nw.use rfl (hW.nw 42 rfl)) h1 h2 h3 kk) (fun H locs q12 hW => ?_)
        rw [← e14] at hW
        have hx0 : lext L0 σ0 L σ13 := by rw [e14]; exact hx0.trans lext_bX
        have hcs := hcs.more (σ1 := σ13) (a := 1) (b := 6) (by rw [e14]; rfl) (by rw [e14]; rfl)
        have hrm := hrm1
        refine lv_astore (lv' := [(4, .ref q12), (0, .ref (L 1 0)), (1, .int a2), (2, .int a3), (3, .ref (L 100 0))]) hx hb dX0_causes_17 hl (by decide) rfl (fun ls hl => ?_)
        refine lv_iconst (v := 2) hx hb dX0_causes_19 (by decide) ?_
        have hs := ww_S hs
        exact vx_ret (wa_i hx hb hr hlocks hx0 hcs hW (congrArg Prod.fst hs) (congrArg Prod.snd hs) dX0_causes_20)
      · have hs := ww_F hs hk11
        cases hs
  · have hs := ww_sR hs
    refine ww_xi0 (vx_runV (As := [.int a2, .int a3]) (rest := [.int (0 : Int32), .ref (L 100 0)]) ⟨hx, hb, hml, hown, hts⟩ (c_X1_causes g hgm l L σ a2 a3 hst _ _ hc1) (cwV 2 hts (lw_V q1609 q1610 q1611 q111 q1612) rfl rfl rfl hd_X1_causes ⟨(Nat.le_of_ble_eq_true rfl), (Nat.le_of_ble_eq_true rfl)⟩) (ww_preV hW (pr_st (hW.rd hgm) (Nat.le_of_ble_eq_true rfl)) (obv_0 rfl) rfl) rfl rfl hl.1 rfl (lv_room (Nat.le_of_ble_eq_true rfl)) dX0_causes_5 hrm) hW (fun H locs hW => ?_)
    refine lv_i2l hx hb dX0_causes_8 rfl ?_
    obtain ⟨hc15, hs⟩ := ww_chk hs
    obtain ⟨σ16, e17, hs⟩ := ww_let hs
    refine ww_last hx hb hW hc15 (j := (0 : Int32)) rfl dX0_causes_9 (fun H locs hW => ?_)
    have hW : wv g L σ16 s H locs := by rw [e17]; exact hW
    obtain ⟨hx0, hcs⟩ := lx_s (σ1 := σ16) hx0 hcs (by rw [e17]; exact kp_O)
    refine lv_goto (tgt := 21) hx hb dX0_causes_10 (by decide) ?_
    refine lv_iconst (v := 0) hx hb dX0_causes_21 (by decide) ?_
    have hs := ww_S hs
    exact vx_ret (wa_i hx hb hr hlocks hx0 hcs hW (congrArg Prod.fst hs) (congrArg Prod.snd hs) dX0_causes_22)
set_option maxHeartbeats 4000000 in
theorem c_X0_called (g : wg_T) (hgm : gm g = true) (l : Launch) (L : ly_T) (σ : st_T) (a2 : Int32) (a3 : Int32) (hst : l.stackTraces = false) (r_ : Int32) (σ_ : st_T) (hs : m_X0_called σ a2 a3 = some (r_, σ_)) : AI g l yX0_called (wsW_ yX0_called cX0_called 5 (some .int) [(0, 10, 13, 52)]) 10 197 [.ref (L 1 0), .int a2, .int a3, .ref (L 100 0)] L σ r_ σ_ := by
  refine hbody.metN (by decide) (Nat.le_of_ble_eq_true rfl) ?_
  intro p e s m args below meth c ls hx hb hr hml hlocks hts hown hnm htab hW hl
  have hown : s.vm.findClass RX0 = some m.cls := hown
  obtain ⟨L0, hL0⟩ : ∃ L0, L0 = L := ⟨_, rfl⟩
  obtain ⟨σ0, hσ0⟩ : ∃ σ0, σ0 = σ := ⟨_, rfl⟩
  rw [← hσ0, ← hL0]
  have hx0 : lext L0 σ0 L σ := by rw [hL0, hσ0]; exact lext.refl
  have hcs : bk σ0 σ 0 0 := bk.start hσ0
  have hrm : 0 ≤ cu_ σ_ - cu_ σ0 ∧ 0 ≤ su_ σ_ - su_ σ0 := ⟨Nat.zero_le _, Nat.zero_le _⟩
  have hl : lv_has ls 5 [(0, .ref (L 1 0)), (1, .int a2), (2, .int a3), (3, .ref (L 100 0))] := hl
  unfold m_X0_called at hs
  refine lv_aload_n hx hb dX0_called_0 rfl (lv_at hl 3 rfl) ?_
  refine lv_iconst (v := 0) hx hb dX0_called_1 (by decide) ?_
  refine lv_aload_n hx hb dX0_called_2 rfl (lv_at hl 0 rfl) ?_
  refine lv_iload_n hx hb dX0_called_3 rfl (lv_at hl 1 rfl) ?_
  refine lv_iload_n hx hb dX0_called_4 rfl (lv_at hl 2 rfl) ?_
  obtain ⟨o3, σ4, hc1, hs⟩ := ww_bn2 hs
  obtain ⟨hkp, hs⟩ := ww_pif hs
  obtain ⟨hx0, hcs⟩ := lx_s hx0 hcs hkp
  rcases o3 with k5 | v6
  · have hs := ww_sL hs
    by_cases hk7 : k5 = 3
    · have hs := ww_T hs hk7
      rw [hk7] at hc1
      obtain ⟨σ9, e10, hs⟩ := ww_let hs
      obtain ⟨hs, hck⟩ := ww_ck2 hs
      have hrm1 := hcs.room (σ1 := σ9) (a := 1) (b := 6) (by rw [e10]; rfl) (by rw [e10]; rfl) hck
      refine ww_catN (hpc := 13) (vx_runV (As := [.int a2, .int a3]) (rest := [.int (0 : Int32), .ref (L 100 0)]) ⟨hx, hb, hml, hown, hts⟩ (c_X1_called g hgm l L σ a2 a3 hst _ _ hc1) (cwV 2 hts (lw_V q1616 q1617 q1618 q111 q1619) rfl rfl rfl hd_X1_called ⟨(Nat.le_of_ble_eq_true rfl), (Nat.le_of_ble_eq_true rfl)⟩) (ww_preV hW (pr_st (hW.rd hgm) (Nat.le_of_ble_eq_true rfl)) (obv_0 rfl) rfl) rfl rfl hl.1 rfl (lv_room (Nat.le_of_ble_eq_true rfl)) dX0_called_5 hrm1) no_i hW (fun H1 locs1 q ce cells1 slots1 h1 h2 h3 kk => vx_catch (own := RX0) (name := exN 3) hown [] ⟨0, 10, 13, 52⟩ [] (htab.trans rfl) (fun z hz => by cases hz) rfl (by decide) (hts _ q1186) (va_Nw.use rfl (hW.nw 55 rfl)) h1 h2 h3 kk) (fun H locs q8 hW => ?_)
      rw [← e10] at hW
      have hx0 : lext L0 σ0 L σ9 := by rw [e10]; exact hx0.trans lext_bX
      have hcs := hcs.more (σ1 := σ9) (a := 1) (b := 6) (by rw [e10]; rfl) (by rw [e10]; rfl)
      have hrm := hrm1
      refine lv_astore (lv' := [(4, .ref q8), (0, .ref (L 1 0)), (1, .int a2), (2, .int a3), (3, .ref (L 100 0))]) hx hb dX0_called_13 hl (by decide) rfl (fun ls hl => ?_)
      refine lv_iconst (v := 1) hx hb dX0_called_15 (by decide) ?_
      have hs := ww_S hs
      exact vx_ret (wa_i hx hb hr hlocks hx0 hcs hW (congrArg Prod.fst hs) (congrArg Prod.snd hs) dX0_called_16)
    · have hs := ww_F hs hk7
      cases hs
  · have hs := ww_sR hs
    refine ww_xi0 (vx_runV (As := [.int a2, .int a3]) (rest := [.int (0 : Int32), .ref (L 100 0)]) ⟨hx, hb, hml, hown, hts⟩ (c_X1_called g hgm l L σ a2 a3 hst _ _ hc1) (cwV 2 hts (lw_V q1616 q1617 q1618 q111 q1619) rfl rfl rfl hd_X1_called ⟨(Nat.le_of_ble_eq_true rfl), (Nat.le_of_ble_eq_true rfl)⟩) (ww_preV hW (pr_st (hW.rd hgm) (Nat.le_of_ble_eq_true rfl)) (obv_0 rfl) rfl) rfl rfl hl.1 rfl (lv_room (Nat.le_of_ble_eq_true rfl)) dX0_called_5 hrm) hW (fun H locs hW => ?_)
    refine lv_i2l hx hb dX0_called_8 rfl ?_
    obtain ⟨hc11, hs⟩ := ww_chk hs
    obtain ⟨σ12, e13, hs⟩ := ww_let hs
    refine ww_last hx hb hW hc11 (j := (0 : Int32)) rfl dX0_called_9 (fun H locs hW => ?_)
    have hW : wv g L σ12 s H locs := by rw [e13]; exact hW
    obtain ⟨hx0, hcs⟩ := lx_s (σ1 := σ12) hx0 hcs (by rw [e13]; exact kp_O)
    refine lv_goto (tgt := 17) hx hb dX0_called_10 (by decide) ?_
    refine lv_iconst (v := 0) hx hb dX0_called_17 (by decide) ?_
    have hs := ww_S hs
    exact vx_ret (wa_i hx hb hr hlocks hx0 hcs hW (congrArg Prod.fst hs) (congrArg Prod.snd hs) dX0_called_18)
set_option maxHeartbeats 4000000 in
theorem c_X0_dusk (g : wg_T) (hgm : gm g = true) (l : Launch) (L : ly_T) (σ : st_T) (a2 : Int32) (a3 : Int32) (a4 : Int32) (hst : l.stackTraces = false) (r_ : Int32) (σ_ : st_T) (hs : m_X0_dusk σ a2 a3 a4 = some (r_, σ_)) : AI g l yX0_dusk (wsW_ yX0_dusk cX0_dusk 6 (some .int) [(0, 12, 15, 13), (0, 12, 19, 15)]) 11 206 [.ref (L 1 0), .int a2, .int a3, .int a4, .ref (L 100 0)] L σ r_ σ_ := by
  refine hbody.metN (by decide) (Nat.le_of_ble_eq_true rfl) ?_
  intro p e s m args below meth c ls hx hb hr hml hlocks hts hown hnm htab hW hl
  have hown : s.vm.findClass RX0 = some m.cls := hown
  obtain ⟨L0, hL0⟩ : ∃ L0, L0 = L := ⟨_, rfl⟩
  obtain ⟨σ0, hσ0⟩ : ∃ σ0, σ0 = σ := ⟨_, rfl⟩
  rw [← hσ0, ← hL0]
  have hx0 : lext L0 σ0 L σ := by rw [hL0, hσ0]; exact lext.refl
  have hcs : bk σ0 σ 0 0 := bk.start hσ0
  have hrm : 0 ≤ cu_ σ_ - cu_ σ0 ∧ 0 ≤ su_ σ_ - su_ σ0 := ⟨Nat.zero_le _, Nat.zero_le _⟩
  have hl : lv_has ls 6 [(0, .ref (L 1 0)), (1, .int a2), (2, .int a3), (3, .int a4), (4, .ref (L 100 0))] := hl
  unfold m_X0_dusk at hs
  refine lv_aload hx hb dX0_dusk_0 (lv_at hl 4 rfl) ?_
  refine lv_iconst (v := 0) hx hb dX0_dusk_2 (by decide) ?_
  refine lv_aload_n hx hb dX0_dusk_3 rfl (lv_at hl 0 rfl) ?_
  refine lv_iload_n hx hb dX0_dusk_4 rfl (lv_at hl 1 rfl) ?_
  refine lv_iload_n hx hb dX0_dusk_5 rfl (lv_at hl 2 rfl) ?_
  refine lv_iload_n hx hb dX0_dusk_6 rfl (lv_at hl 3 rfl) ?_
  obtain ⟨o3, σ4, hc1, hs⟩ := ww_bn2 hs
  have hl : lv_has ls 6 [] := lv_sub hl [] rfl
  obtain ⟨hc7, hs⟩ := ww_chk hs
  have hp8 : pr σ 100 0 := (pr_dy hc7 rfl rfl)
  obtain ⟨hc9, hs⟩ := ww_chk hs
  obtain ⟨hs, hck⟩ := ww_ck2 hs
  have hrm1 := hcs.roomC hc9 hck
  rcases o3 with k5 | v6
  · have hs := ww_sL hs
    by_cases hk10 : k5 = 0
    · have hs := ww_T hs hk10
      rw [hk10] at hc1
      refine ww_catA (hpc := 15) (vx_runV (As := [.int a2, .int a3, .int a4]) (rest := [.int (0 : Int32), .ref (L 100 0)]) ⟨hx, hb, hml, hown, hts⟩ (c_X1_dusk g hgm l L σ a2 a3 a4 hst _ _ hc1) (cwV 3 hts (lw_V q1627 q1628 q1629 q111 q1630) rfl rfl rfl hd_X1_dusk ⟨(Nat.le_of_ble_eq_true rfl), (Nat.le_of_ble_eq_true rfl)⟩) (ww_preV hW (pr_st (hW.rd hgm) (Nat.le_of_ble_eq_true rfl)) (obv_0 rfl) rfl) rfl rfl hl.1 rfl (lv_room (Nat.le_of_ble_eq_true rfl)) dX0_dusk_7 hrm1) noA_i hW (fun H1 locs1 q ce cells1 slots1 h1 h2 h3 kk => vx_catch (own := RX0) (name := exN 0) hown [] ⟨0, 12, 15, 13⟩ [⟨0, 12, 19, 15⟩] (htab.trans rfl) (fun z hz => by cases hz) rfl (by decide) (hts _ q737) (va_Nw.use rfl (hW.nw 41 rfl)) h1 h2 h3 kk) (fun H locs L q11 hx1 hW => ?_)
      have hc12 : 0 < gN_ σ4 100 := Nat.lt_of_lt_of_le hc7 (hx1.2.1 100)
      have hcs := hcs.call hc9
      have hrm := hrm1
      have hx0 := hx0.trans hx1
      refine lv_astore (lv' := [(5, .ref q11)]) hx hb dX0_dusk_15 hl (by decide) rfl (fun ls hl => ?_)
      refine lv_iconst (v := 1) hx hb dX0_dusk_17 (by decide) ?_
      have hs := ww_S hs
      exact vx_ret (wa_i hx hb hr hlocks hx0 hcs hW (congrArg Prod.fst hs) (congrArg Prod.snd hs) dX0_dusk_18)
    · have hs := ww_F hs hk10
      by_cases hk13 : k5 = 1
      · have hs := ww_T hs hk13
        rw [hk13] at hc1
        refine ww_catA (hpc := 19) (vx_runV (As := [.int a2, .int a3, .int a4]) (rest := [.int (0 : Int32), .ref (L 100 0)]) ⟨hx, hb, hml, hown, hts⟩ (c_X1_dusk g hgm l L σ a2 a3 a4 hst _ _ hc1) (cwV 3 hts (lw_V q1627 q1628 q1629 q111 q1630) rfl rfl rfl hd_X1_dusk ⟨(Nat.le_of_ble_eq_true rfl), (Nat.le_of_ble_eq_true rfl)⟩) (ww_preV hW (pr_st (hW.rd hgm) (Nat.le_of_ble_eq_true rfl)) (obv_0 rfl) rfl) rfl rfl hl.1 rfl (lv_room (Nat.le_of_ble_eq_true rfl)) dX0_dusk_7 hrm1) noA_i hW (fun H1 locs1 q ce cells1 slots1 h1 h2 h3 kk => vx_catch (own := RX0) (name := exN 1) hown [⟨0, 12, 15, 13⟩] ⟨0, 12, 19, 15⟩ [] (htab.trans rfl) (fun z hz => by simp only [List.mem_cons, List.not_mem_nil, or_false] at hz; rcases hz with rfl <;> first | exact Or.inr ⟨by decide, _, hts _ q737, hW.1.2.2.2.2.2.2.2.2.2.2.2.2.2.2.2 1 0 (by decide) (by decide) (by decide)⟩) rfl (by decide) (hts _ q815) (va_Nw.use rfl (hW.nw 42 rfl)) h1 h2 h3 kk) (fun H locs L q14 hx1 hW => ?_)
        have hc15 : 0 < gN_ σ4 100 := Nat.lt_of_lt_of_le hc7 (hx1.2.1 100)
        have hcs := hcs.call hc9
        have hrm := hrm1
        have hx0 := hx0.trans hx1
        refine lv_astore (lv' := [(5, .ref q14)]) hx hb dX0_dusk_19 hl (by decide) rfl (fun ls hl => ?_)
        refine lv_iconst (v := 2) hx hb dX0_dusk_21 (by decide) ?_
        have hs := ww_S hs
        exact vx_ret (wa_i hx hb hr hlocks hx0 hcs hW (congrArg Prod.fst hs) (congrArg Prod.snd hs) dX0_dusk_22)
      · have hs := ww_F hs hk13
        cases hs
  · have hs := ww_sR hs
    refine wz_ci (vx_runV (As := [.int a2, .int a3, .int a4]) (rest := [.int (0 : Int32), .ref (L 100 0)]) ⟨hx, hb, hml, hown, hts⟩ (c_X1_dusk g hgm l L σ a2 a3 a4 hst _ _ hc1) (cwV 3 hts (lw_V q1627 q1628 q1629 q111 q1630) rfl rfl rfl hd_X1_dusk ⟨(Nat.le_of_ble_eq_true rfl), (Nat.le_of_ble_eq_true rfl)⟩) (ww_preV hW (pr_st (hW.rd hgm) (Nat.le_of_ble_eq_true rfl)) (obv_0 rfl) rfl) rfl rfl hl.1 rfl (lv_room (Nat.le_of_ble_eq_true rfl)) dX0_dusk_7 hrm1) hW (fun H locs L hx1 hW => ?_)
    have hc16 : 0 < gN_ σ4 100 := Nat.lt_of_lt_of_le hc7 (hx1.2.1 100)
    have hcs := hcs.call hc9
    have hrm := hrm1
    refine ww_stk (st1 := [.int v6, .int (0 : Int32), .ref (L 100 0)]) (by rw [hx1.at hp8 (by decide)]) ?_
    have hx0 := hx0.trans hx1
    refine lv_i2l hx hb dX0_dusk_10 rfl ?_
    obtain ⟨hc17, hs⟩ := ww_chk hs
    obtain ⟨σ18, e19, hs⟩ := ww_let hs
    refine ww_last hx hb hW hc17 (j := (0 : Int32)) rfl dX0_dusk_11 (fun H locs hW => ?_)
    have hW : wv g L σ18 s H locs := by rw [e19]; exact hW
    obtain ⟨hx0, hcs⟩ := lx_s (σ1 := σ18) hx0 hcs (by rw [e19]; exact kp_O)
    have hc20 : 0 < gN_ σ18 100 := by rw [e19]; exact hc16
    refine lv_goto (tgt := 23) hx hb dX0_dusk_12 (by decide) ?_
    refine lv_iconst (v := 0) hx hb dX0_dusk_23 (by decide) ?_
    have hs := ww_S hs
    exact vx_ret (wa_i hx hb hr hlocks hx0 hcs hW (congrArg Prod.fst hs) (congrArg Prod.snd hs) dX0_dusk_24)
set_option maxHeartbeats 4000000 in
theorem c_X0_lease (g : wg_T) (hgm : gm g = true) (l : Launch) (L : ly_T) (σ : st_T) (a2 : Int32) (a3 : Int32) (hst : l.stackTraces = false) (r_ : Int32) (σ_ : st_T) (hs : m_X0_lease σ a2 a3 = some (r_, σ_)) : AI g l yX0_lease (wsW_ yX0_lease cX0_lease 5 (some .int) [(0, 17, 20, 13)]) 10 183 [.ref (L 1 0), .int a2, .int a3, .ref (L 100 0)] L σ r_ σ_ := by
  refine hbody.metN (by decide) (Nat.le_of_ble_eq_true rfl) ?_
  intro p e s m args below meth c ls hx hb hr hml hlocks hts hown hnm htab hW hl
  have hown : s.vm.findClass RX0 = some m.cls := hown
  obtain ⟨L0, hL0⟩ : ∃ L0, L0 = L := ⟨_, rfl⟩
  obtain ⟨σ0, hσ0⟩ : ∃ σ0, σ0 = σ := ⟨_, rfl⟩
  rw [← hσ0, ← hL0]
  have hx0 : lext L0 σ0 L σ := by rw [hL0, hσ0]; exact lext.refl
  have hcs : bk σ0 σ 0 0 := bk.start hσ0
  have hrm : 0 ≤ cu_ σ_ - cu_ σ0 ∧ 0 ≤ su_ σ_ - su_ σ0 := ⟨Nat.zero_le _, Nat.zero_le _⟩
  have hl : lv_has ls 5 [(0, .ref (L 1 0)), (1, .int a2), (2, .int a3), (3, .ref (L 100 0))] := hl
  unfold m_X0_lease at hs
  have hL16 : ∀ (L : ly_T) (σ : st_T) (t1 : Int32) (t2 : Int64) (H : Heap) (locs : List Loc) (cells slots : Nat) (ls : Array Slot), lext L0 σ0 L σ → bk σ0 σ cells slots → (cells ≤ cu_ σ_ - cu_ σ0 ∧ slots ≤ su_ σ_ - su_ σ0) → wv g L σ s H locs → lv_has ls 5 [] → m_X0_lease_L16 σ t1 t2 = some (r_, σ_) → W p l e (wrA 10 183 σ0 σ_) s m args below meth c H locs cells slots (vx_MQ below (wAi g L0 σ0 r_ σ_) nX_ args s (cu_ σ_ - cu_ σ0) (su_ σ_ - su_ σ0) (fun q => gz g ≤ q)) (F0 m 16 ls [.long t2, .int t1, .ref (L 100 0)]) := by
    intro L σ t1 t2 H locs cells slots ls hx0 hcs hrm hW hl hs
    unfold m_X0_lease_L16 at hs
    obtain ⟨hc1, hs⟩ := ww_chk hs
    obtain ⟨hc2, hs⟩ := ww_chk hs
    obtain ⟨σ3, e4, hs⟩ := ww_let hs
    refine ww_last hx hb hW hc1 (j := t1) hc2 dX0_lease_16 (fun H locs hW => ?_)
    have hW : wv g L σ3 s H locs := by rw [e4]; exact hW
    obtain ⟨hx0, hcs⟩ := lx_s (σ1 := σ3) hx0 hcs (by rw [e4]; exact kp_O)
    refine lv_goto (tgt := 24) hx hb dX0_lease_17 (by decide) ?_
    refine lv_iconst (v := 0) hx hb dX0_lease_24 (by decide) ?_
    have hs := ww_S hs
    exact vx_ret (wa_i hx hb hr hlocks hx0 hcs hW (congrArg Prod.fst hs) (congrArg Prod.snd hs) dX0_lease_25)
  refine lv_aload_n hx hb dX0_lease_0 rfl (lv_at hl 3 rfl) ?_
  refine lv_iconst (v := 0) hx hb dX0_lease_1 (by decide) ?_
  refine lv_aload_n hx hb dX0_lease_2 rfl (lv_at hl 0 rfl) ?_
  refine lv_iload_n hx hb dX0_lease_3 rfl (lv_at hl 1 rfl) ?_
  refine lv_iload_n hx hb dX0_lease_4 rfl (lv_at hl 2 rfl) ?_
  obtain ⟨o7, σ8, hc5, hs⟩ := ww_bn2 hs
  obtain ⟨hkp, hs⟩ := ww_pif hs
  obtain ⟨hx0, hcs⟩ := lx_s hx0 hcs hkp
  rcases o7 with k9 | v10
  · have hs := ww_sL hs
    by_cases hk11 : k9 = 0
    · have hs := ww_T hs hk11
      rw [hk11] at hc5
      obtain ⟨σ13, e14, hs⟩ := ww_let hs
      obtain ⟨hs, hck⟩ := ww_ck2 hs
      have hrm1 := hcs.room (σ1 := σ13) (a := 1) (b := 6) (by rw [e14]; rfl) (by rw [e14]; rfl) hck
      refine ww_catN (hpc := 20) (vx_runV (As := [.int a2, .int a3]) (rest := [.int (0 : Int32), .ref (L 100 0)]) ⟨hx, hb, hml, hown, hts⟩ (c_X1_lease g hgm l L σ a2 a3 hst _ _ hc5) (cwV 2 hts (lw_V q1634 q1635 q1636 q111 q1637) rfl rfl rfl hd_X1_lease ⟨(Nat.le_of_ble_eq_true rfl), (Nat.le_of_ble_eq_true rfl)⟩) (ww_preV hW (pr_st (hW.rd hgm) (Nat.le_of_ble_eq_true rfl)) (obv_0 rfl) rfl) rfl rfl hl.1 rfl (lv_room (Nat.le_of_ble_eq_true rfl)) dX0_lease_5 hrm1) no_i hW (fun H1 locs1 q ce cells1 slots1 h1 h2 h3 kk => vx_catch (own := RX0) (name := exN 0) hown [] ⟨0, 17, 20, 13⟩ [] (htab.trans rfl) (fun z hz => by cases hz) rfl (by decide) (hts _ q737) (va_Nw.use rfl (hW.nw 41 rfl)) h1 h2 h3 kk) (fun H locs q12 hW => ?_)
      rw [← e14] at hW
      have hx0 : lext L0 σ0 L σ13 := by rw [e14]; exact hx0.trans lext_bX
      have hcs := hcs.more (σ1 := σ13) (a := 1) (b := 6) (by rw [e14]; rfl) (by rw [e14]; rfl)
      have hrm := hrm1
      refine lv_astore (lv' := [(4, .ref q12), (0, .ref (L 1 0)), (1, .int a2), (2, .int a3), (3, .ref (L 100 0))]) hx hb dX0_lease_20 hl (by decide) rfl (fun ls hl => ?_)
      refine lv_iconst (v := 1) hx hb dX0_lease_22 (by decide) ?_
      have hs := ww_S hs
      exact vx_ret (wa_i hx hb hr hlocks hx0 hcs hW (congrArg Prod.fst hs) (congrArg Prod.snd hs) dX0_lease_23)
    · have hs := ww_F hs hk11
      cases hs
  · have hs := ww_sR hs
    refine ww_xi0 (vx_runV (As := [.int a2, .int a3]) (rest := [.int (0 : Int32), .ref (L 100 0)]) ⟨hx, hb, hml, hown, hts⟩ (c_X1_lease g hgm l L σ a2 a3 hst _ _ hc5) (cwV 2 hts (lw_V q1634 q1635 q1636 q111 q1637) rfl rfl rfl hd_X1_lease ⟨(Nat.le_of_ble_eq_true rfl), (Nat.le_of_ble_eq_true rfl)⟩) (ww_preV hW (pr_st (hW.rd hgm) (Nat.le_of_ble_eq_true rfl)) (obv_0 rfl) rfl) rfl rfl hl.1 rfl (lv_room (Nat.le_of_ble_eq_true rfl)) dX0_lease_5 hrm) hW (fun H locs hW => ?_)
    refine lv_if_eq (tgt := 15) hx hb dX0_lease_8 (by decide) (fun hc15 => ?_) (fun hc15 => ?_)
    · have hs := ww_T hs hc15
      refine lv_lconst (v := 0) hx hb dX0_lease_15 (by decide) ?_
      exact hL16 L σ8 (0 : Int32) (0 : Int64) _ _ _ _ ls hx0 hcs hrm hW (lv_sub hl [] rfl) hs
    · have hs := ww_F hs hc15
      refine lv_lconst (v := 1) hx hb dX0_lease_11 (by decide) ?_
      refine lv_goto (tgt := 16) hx hb dX0_lease_12 (by decide) ?_
      exact hL16 L σ8 (0 : Int32) (1 : Int64) _ _ _ _ ls hx0 hcs hrm hW (lv_sub hl [] rfl) hs
set_option maxHeartbeats 4000000 in
theorem c_X0_rent (g : wg_T) (hgm : gm g = true) (l : Launch) (L : ly_T) (σ : st_T) (a2 : Int32) (a3 : Int32) (hst : l.stackTraces = false) (r_ : Int32) (σ_ : st_T) (hs : m_X0_rent σ a2 a3 = some (r_, σ_)) : AI g l yX0_rent (wsW_ yX0_rent cX0_rent 5 (some .int) [(0, 10, 13, 13), (0, 10, 17, 15)]) 10 183 [.ref (L 1 0), .int a2, .int a3, .ref (L 100 0)] L σ r_ σ_ := by
  refine hbody.metN (by decide) (Nat.le_of_ble_eq_true rfl) ?_
  intro p e s m args below meth c ls hx hb hr hml hlocks hts hown hnm htab hW hl
  have hown : s.vm.findClass RX0 = some m.cls := hown
  obtain ⟨L0, hL0⟩ : ∃ L0, L0 = L := ⟨_, rfl⟩
  obtain ⟨σ0, hσ0⟩ : ∃ σ0, σ0 = σ := ⟨_, rfl⟩
  rw [← hσ0, ← hL0]
  have hx0 : lext L0 σ0 L σ := by rw [hL0, hσ0]; exact lext.refl
  have hcs : bk σ0 σ 0 0 := bk.start hσ0
  have hrm : 0 ≤ cu_ σ_ - cu_ σ0 ∧ 0 ≤ su_ σ_ - su_ σ0 := ⟨Nat.zero_le _, Nat.zero_le _⟩
  have hl : lv_has ls 5 [(0, .ref (L 1 0)), (1, .int a2), (2, .int a3), (3, .ref (L 100 0))] := hl
  unfold m_X0_rent at hs
  refine lv_aload_n hx hb dX0_rent_0 rfl (lv_at hl 3 rfl) ?_
  refine lv_iconst (v := 0) hx hb dX0_rent_1 (by decide) ?_
  refine lv_aload_n hx hb dX0_rent_2 rfl (lv_at hl 0 rfl) ?_
  refine lv_iload_n hx hb dX0_rent_3 rfl (lv_at hl 1 rfl) ?_
  refine lv_iload_n hx hb dX0_rent_4 rfl (lv_at hl 2 rfl) ?_
  obtain ⟨o3, σ4, hc1, hs⟩ := ww_bn2 hs
  obtain ⟨hkp, hs⟩ := ww_pif hs
  obtain ⟨hx0, hcs⟩ := lx_s hx0 hcs hkp
  rcases o3 with k5 | v6
  · have hs := ww_sL hs
    by_cases hk7 : k5 = 0
    · have hs := ww_T hs hk7
      rw [hk7] at hc1
      obtain ⟨σ9, e10, hs⟩ := ww_let hs
      obtain ⟨hs, hck⟩ := ww_ck2 hs
      have hrm1 := hcs.room (σ1 := σ9) (a := 1) (b := 6) (by rw [e10]; rfl) (by rw [e10]; rfl) hck
      refine ww_catN (hpc := 13) (vx_runV (As := [.int a2, .int a3]) (rest := [.int (0 : Int32), .ref (L 100 0)]) ⟨hx, hb, hml, hown, hts⟩ (c_X1_rent g hgm l L σ a2 a3 hst _ _ hc1) (cwV 2 hts (lw_V q1641 q1642 q1643 q111 q1644) rfl rfl rfl hd_X1_rent ⟨(Nat.le_of_ble_eq_true rfl), (Nat.le_of_ble_eq_true rfl)⟩) (ww_preV hW (pr_st (hW.rd hgm) (Nat.le_of_ble_eq_true rfl)) (obv_0 rfl) rfl) rfl rfl hl.1 rfl (lv_room (Nat.le_of_ble_eq_true rfl)) dX0_rent_5 hrm1) no_i hW (fun H1 locs1 q ce cells1 slots1 h1 h2 h3 kk => vx_catch (own := RX0) (name := exN 0) hown [] ⟨0, 10, 13, 13⟩ [⟨0, 10, 17, 15⟩] (htab.trans rfl) (fun z hz => by cases hz) rfl (by decide) (hts _ q737) (va_Nw.use rfl (hW.nw 41 rfl)) h1 h2 h3 kk) (fun H locs q8 hW => ?_)
      rw [← e10] at hW
      have hx0 : lext L0 σ0 L σ9 := by rw [e10]; exact hx0.trans lext_bX
      have hcs := hcs.more (σ1 := σ9) (a := 1) (b := 6) (by rw [e10]; rfl) (by rw [e10]; rfl)
      have hrm := hrm1
      refine lv_astore (lv' := [(4, .ref q8), (0, .ref (L 1 0)), (1, .int a2), (2, .int a3), (3, .ref (L 100 0))]) hx hb dX0_rent_13 hl (by decide) rfl (fun ls hl => ?_)
      refine lv_iconst (v := 1) hx hb dX0_rent_15 (by decide) ?_
      have hs := ww_S hs
      exact vx_ret (wa_i hx hb hr hlocks hx0 hcs hW (congrArg Prod.fst hs) (congrArg Prod.snd hs) dX0_rent_16)
    · have hs := ww_F hs hk7
      by_cases hk11 : k5 = 1
      · have hs := ww_T hs hk11
        rw [hk11] at hc1
        obtain ⟨σ13, e14, hs⟩ := ww_let hs
        obtain ⟨hs, hck⟩ := ww_ck2 hs
        have hrm1 := hcs.room (σ1 := σ13) (a := 1) (b := 6) (by rw [e14]; rfl) (by rw [e14]; rfl) hck
        refine ww_catN (hpc := 17) (vx_runV (As := [.int a2, .int a3]) (rest := [.int (0 : Int32), .ref (L 100 0)]) ⟨hx, hb, hml, hown, hts⟩ (c_X1_rent g hgm l L σ a2 a3 hst _ _ hc1) (cwV 2 hts (lw_V q1641 q1642 q1643 q111 q1644) rfl rfl rfl hd_X1_rent ⟨(Nat.le_of_ble_eq_true rfl), (Nat.le_of_ble_eq_true rfl)⟩) (ww_preV hW (pr_st (hW.rd hgm) (Nat.le_of_ble_eq_true rfl)) (obv_0 rfl) rfl) rfl rfl hl.1 rfl (lv_room (Nat.le_of_ble_eq_true rfl)) dX0_rent_5 hrm1) no_i hW (fun H1 locs1 q ce cells1 slots1 h1 h2 h3 kk => vx_catch (own := RX0) (name := exN 1) hown [⟨0, 10, 13, 13⟩] ⟨0, 10, 17, 15⟩ [] (htab.trans rfl) (fun z hz => by simp only [List.mem_cons, List.not_mem_nil, or_false] at hz; rcases hz with rfl <;> first | exact Or.inr ⟨by decide, _, hts _ q737, hW.1.2.2.2.2.2.2.2.2.2.2.2.2.2.2.2 1 0 (by decide) (by decide) (by decide)⟩) rfl (by decide) (hts _ q815) (va_Nw.use rfl (hW.nw 42 rfl)) h1 h2 h3 kk) (fun H locs q12 hW => ?_)
        rw [← e14] at hW
        have hx0 : lext L0 σ0 L σ13 := by rw [e14]; exact hx0.trans lext_bX
        have hcs := hcs.more (σ1 := σ13) (a := 1) (b := 6) (by rw [e14]; rfl) (by rw [e14]; rfl)
        have hrm := hrm1
        refine lv_astore (lv' := [(4, .ref q12), (0, .ref (L 1 0)), (1, .int a2), (2, .int a3), (3, .ref (L 100 0))]) hx hb dX0_rent_17 hl (by decide) rfl (fun ls hl => ?_)
        refine lv_iconst (v := 2) hx hb dX0_rent_19 (by decide) ?_
        have hs := ww_S hs
        exact vx_ret (wa_i hx hb hr hlocks hx0 hcs hW (congrArg Prod.fst hs) (congrArg Prod.snd hs) dX0_rent_20)
      · have hs := ww_F hs hk11
        cases hs
  · have hs := ww_sR hs
    refine ww_xi0 (vx_runV (As := [.int a2, .int a3]) (rest := [.int (0 : Int32), .ref (L 100 0)]) ⟨hx, hb, hml, hown, hts⟩ (c_X1_rent g hgm l L σ a2 a3 hst _ _ hc1) (cwV 2 hts (lw_V q1641 q1642 q1643 q111 q1644) rfl rfl rfl hd_X1_rent ⟨(Nat.le_of_ble_eq_true rfl), (Nat.le_of_ble_eq_true rfl)⟩) (ww_preV hW (pr_st (hW.rd hgm) (Nat.le_of_ble_eq_true rfl)) (obv_0 rfl) rfl) rfl rfl hl.1 rfl (lv_room (Nat.le_of_ble_eq_true rfl)) dX0_rent_5 hrm) hW (fun H locs hW => ?_)
    refine lv_i2l hx hb dX0_rent_8 rfl ?_
    obtain ⟨hc15, hs⟩ := ww_chk hs
    obtain ⟨σ16, e17, hs⟩ := ww_let hs
    refine ww_last hx hb hW hc15 (j := (0 : Int32)) rfl dX0_rent_9 (fun H locs hW => ?_)
    have hW : wv g L σ16 s H locs := by rw [e17]; exact hW
    obtain ⟨hx0, hcs⟩ := lx_s (σ1 := σ16) hx0 hcs (by rw [e17]; exact kp_O)
    refine lv_goto (tgt := 21) hx hb dX0_rent_10 (by decide) ?_
    refine lv_iconst (v := 0) hx hb dX0_rent_21 (by decide) ?_
    have hs := ww_S hs
    exact vx_ret (wa_i hx hb hr hlocks hx0 hcs hW (congrArg Prod.fst hs) (congrArg Prod.snd hs) dX0_rent_22)
set_option maxHeartbeats 4000000 in
theorem c_X0_rents (g : wg_T) (hgm : gm g = true) (l : Launch) (L : ly_T) (σ : st_T) (a2 : Int32) (a3 : Int32) (hst : l.stackTraces = false) (r_ : Int32) (σ_ : st_T) (hs : m_X0_rents σ a2 a3 = some (r_, σ_)) : AI g l yX0_rents (wsW_ yX0_rents cX0_rents 5 (some .int) [(0, 10, 13, 13)]) 10 182 [.ref (L 1 0), .int a2, .int a3, .ref (L 100 0)] L σ r_ σ_ := by
  refine hbody.metN (by decide) (Nat.le_of_ble_eq_true rfl) ?_
  intro p e s m args below meth c ls hx hb hr hml hlocks hts hown hnm htab hW hl
  have hown : s.vm.findClass RX0 = some m.cls := hown
  obtain ⟨L0, hL0⟩ : ∃ L0, L0 = L := ⟨_, rfl⟩
  obtain ⟨σ0, hσ0⟩ : ∃ σ0, σ0 = σ := ⟨_, rfl⟩
  rw [← hσ0, ← hL0]
  have hx0 : lext L0 σ0 L σ := by rw [hL0, hσ0]; exact lext.refl
  have hcs : bk σ0 σ 0 0 := bk.start hσ0
  have hrm : 0 ≤ cu_ σ_ - cu_ σ0 ∧ 0 ≤ su_ σ_ - su_ σ0 := ⟨Nat.zero_le _, Nat.zero_le _⟩
  have hl : lv_has ls 5 [(0, .ref (L 1 0)), (1, .int a2), (2, .int a3), (3, .ref (L 100 0))] := hl
  unfold m_X0_rents at hs
  refine lv_aload_n hx hb dX0_rents_0 rfl (lv_at hl 3 rfl) ?_
  refine lv_iconst (v := 0) hx hb dX0_rents_1 (by decide) ?_
  refine lv_aload_n hx hb dX0_rents_2 rfl (lv_at hl 0 rfl) ?_
  refine lv_iload_n hx hb dX0_rents_3 rfl (lv_at hl 1 rfl) ?_
  refine lv_iload_n hx hb dX0_rents_4 rfl (lv_at hl 2 rfl) ?_
  obtain ⟨o3, σ4, hc1, hs⟩ := ww_bn2 hs
  have hl : lv_has ls 5 [] := lv_sub hl [] rfl
  obtain ⟨hc7, hs⟩ := ww_chk hs
  have hp8 : pr σ 100 0 := (pr_dy hc7 rfl rfl)
  obtain ⟨hc9, hs⟩ := ww_chk hs
  obtain ⟨hs, hck⟩ := ww_ck2 hs
  have hrm1 := hcs.roomC hc9 hck
  rcases o3 with k5 | v6
  · have hs := ww_sL hs
    by_cases hk10 : k5 = 0
    · have hs := ww_T hs hk10
      rw [hk10] at hc1
      refine ww_catA (hpc := 13) (vx_runV (As := [.int a2, .int a3]) (rest := [.int (0 : Int32), .ref (L 100 0)]) ⟨hx, hb, hml, hown, hts⟩ (c_X1_rents g hgm l L σ a2 a3 hst _ _ hc1) (cwV 2 hts (lw_V q1648 q1649 q1650 q111 q1651) rfl rfl rfl hd_X1_rents ⟨(Nat.le_of_ble_eq_true rfl), (Nat.le_of_ble_eq_true rfl)⟩) (ww_preV hW (pr_st (hW.rd hgm) (Nat.le_of_ble_eq_true rfl)) (obv_0 rfl) rfl) rfl rfl hl.1 rfl (lv_room (Nat.le_of_ble_eq_true rfl)) dX0_rents_5 hrm1) noA_i hW (fun H1 locs1 q ce cells1 slots1 h1 h2 h3 kk => vx_catch (own := RX0) (name := exN 0) hown [] ⟨0, 10, 13, 13⟩ [] (htab.trans rfl) (fun z hz => by cases hz) rfl (by decide) (hts _ q737) (va_Nw.use rfl (hW.nw 41 rfl)) h1 h2 h3 kk) (fun H locs L q11 hx1 hW => ?_)
      have hc12 : 0 < gN_ σ4 100 := Nat.lt_of_lt_of_le hc7 (hx1.2.1 100)
      have hcs := hcs.call hc9
      have hrm := hrm1
      have hx0 := hx0.trans hx1
      refine lv_astore (lv' := [(4, .ref q11)]) hx hb dX0_rents_13 hl (by decide) rfl (fun ls hl => ?_)
      refine lv_iconst (v := 1) hx hb dX0_rents_15 (by decide) ?_
      have hs := ww_S hs
      exact vx_ret (wa_i hx hb hr hlocks hx0 hcs hW (congrArg Prod.fst hs) (congrArg Prod.snd hs) dX0_rents_16)
    · have hs := ww_F hs hk10
      cases hs
  · have hs := ww_sR hs
    refine wz_ci (vx_runV (As := [.int a2, .int a3]) (rest := [.int (0 : Int32), .ref (L 100 0)]) ⟨hx, hb, hml, hown, hts⟩ (c_X1_rents g hgm l L σ a2 a3 hst _ _ hc1) (cwV 2 hts (lw_V q1648 q1649 q1650 q111 q1651) rfl rfl rfl hd_X1_rents ⟨(Nat.le_of_ble_eq_true rfl), (Nat.le_of_ble_eq_true rfl)⟩) (ww_preV hW (pr_st (hW.rd hgm) (Nat.le_of_ble_eq_true rfl)) (obv_0 rfl) rfl) rfl rfl hl.1 rfl (lv_room (Nat.le_of_ble_eq_true rfl)) dX0_rents_5 hrm1) hW (fun H locs L hx1 hW => ?_)
    have hc13 : 0 < gN_ σ4 100 := Nat.lt_of_lt_of_le hc7 (hx1.2.1 100)
    have hcs := hcs.call hc9
    have hrm := hrm1
    refine ww_stk (st1 := [.int v6, .int (0 : Int32), .ref (L 100 0)]) (by rw [hx1.at hp8 (by decide)]) ?_
    have hx0 := hx0.trans hx1
    refine lv_i2l hx hb dX0_rents_8 rfl ?_
    obtain ⟨hc14, hs⟩ := ww_chk hs
    obtain ⟨σ15, e16, hs⟩ := ww_let hs
    refine ww_last hx hb hW hc14 (j := (0 : Int32)) rfl dX0_rents_9 (fun H locs hW => ?_)
    have hW : wv g L σ15 s H locs := by rw [e16]; exact hW
    obtain ⟨hx0, hcs⟩ := lx_s (σ1 := σ15) hx0 hcs (by rw [e16]; exact kp_O)
    have hc17 : 0 < gN_ σ15 100 := by rw [e16]; exact hc13
    refine lv_goto (tgt := 17) hx hb dX0_rents_10 (by decide) ?_
    refine lv_iconst (v := 0) hx hb dX0_rents_17 (by decide) ?_
    have hs := ww_S hs
    exact vx_ret (wa_i hx hb hr hlocks hx0 hcs hW (congrArg Prod.fst hs) (congrArg Prod.snd hs) dX0_rents_18)
set_option maxHeartbeats 4000000 in
theorem c_X0_gap (g : wg_T) (hgm : gm g = true) (l : Launch) (L : ly_T) (σ : st_T) (a2 : Int32) (a3 : Int32) (a4 : Int32) (hst : l.stackTraces = false) (r_ : Int32) (σ_ : st_T) (hs : m_X0_gap σ a2 a3 a4 = some (r_, σ_)) : AI g l yX0_gap (wsW_ yX0_gap cX0_gap 6 (some .int) [(0, 12, 15, 13)]) 10 183 [.ref (L 1 0), .int a2, .int a3, .int a4, .ref (L 100 0)] L σ r_ σ_ := by
  refine hbody.metN (by decide) (Nat.le_of_ble_eq_true rfl) ?_
  intro p e s m args below meth c ls hx hb hr hml hlocks hts hown hnm htab hW hl
  have hown : s.vm.findClass RX0 = some m.cls := hown
  obtain ⟨L0, hL0⟩ : ∃ L0, L0 = L := ⟨_, rfl⟩
  obtain ⟨σ0, hσ0⟩ : ∃ σ0, σ0 = σ := ⟨_, rfl⟩
  rw [← hσ0, ← hL0]
  have hx0 : lext L0 σ0 L σ := by rw [hL0, hσ0]; exact lext.refl
  have hcs : bk σ0 σ 0 0 := bk.start hσ0
  have hrm : 0 ≤ cu_ σ_ - cu_ σ0 ∧ 0 ≤ su_ σ_ - su_ σ0 := ⟨Nat.zero_le _, Nat.zero_le _⟩
  have hl : lv_has ls 6 [(0, .ref (L 1 0)), (1, .int a2), (2, .int a3), (3, .int a4), (4, .ref (L 100 0))] := hl
  unfold m_X0_gap at hs
  refine lv_aload hx hb dX0_gap_0 (lv_at hl 4 rfl) ?_
  refine lv_iconst (v := 0) hx hb dX0_gap_2 (by decide) ?_
  refine lv_aload_n hx hb dX0_gap_3 rfl (lv_at hl 0 rfl) ?_
  refine lv_iload_n hx hb dX0_gap_4 rfl (lv_at hl 1 rfl) ?_
  refine lv_iload_n hx hb dX0_gap_5 rfl (lv_at hl 2 rfl) ?_
  refine lv_iload_n hx hb dX0_gap_6 rfl (lv_at hl 3 rfl) ?_
  obtain ⟨o3, σ4, hc1, hs⟩ := ww_bn2 hs
  have hl : lv_has ls 6 [] := lv_sub hl [] rfl
  obtain ⟨hc7, hs⟩ := ww_chk hs
  have hp8 : pr σ 100 0 := (pr_dy hc7 rfl rfl)
  obtain ⟨hc9, hs⟩ := ww_chk hs
  obtain ⟨hs, hck⟩ := ww_ck2 hs
  have hrm1 := hcs.roomC hc9 hck
  rcases o3 with k5 | v6
  · have hs := ww_sL hs
    by_cases hk10 : k5 = 0
    · have hs := ww_T hs hk10
      rw [hk10] at hc1
      refine ww_catA (hpc := 15) (vx_runV (As := [.int a2, .int a3, .int a4]) (rest := [.int (0 : Int32), .ref (L 100 0)]) ⟨hx, hb, hml, hown, hts⟩ (c_X1_gap g hgm l L σ a2 a3 a4 hst _ _ hc1) (cwV 3 hts (lw_V q1667 q1668 q1669 q111 q1670) rfl rfl rfl hd_X1_gap ⟨(Nat.le_of_ble_eq_true rfl), (Nat.le_of_ble_eq_true rfl)⟩) (ww_preV hW (pr_st (hW.rd hgm) (Nat.le_of_ble_eq_true rfl)) (obv_0 rfl) rfl) rfl rfl hl.1 rfl (lv_room (Nat.le_of_ble_eq_true rfl)) dX0_gap_7 hrm1) noA_i hW (fun H1 locs1 q ce cells1 slots1 h1 h2 h3 kk => vx_catch (own := RX0) (name := exN 0) hown [] ⟨0, 12, 15, 13⟩ [] (htab.trans rfl) (fun z hz => by cases hz) rfl (by decide) (hts _ q737) (va_Nw.use rfl (hW.nw 41 rfl)) h1 h2 h3 kk) (fun H locs L q11 hx1 hW => ?_)
      have hc12 : 0 < gN_ σ4 100 := Nat.lt_of_lt_of_le hc7 (hx1.2.1 100)
      have hcs := hcs.call hc9
      have hrm := hrm1
      have hx0 := hx0.trans hx1
      refine lv_astore (lv' := [(5, .ref q11)]) hx hb dX0_gap_15 hl (by decide) rfl (fun ls hl => ?_)
      refine lv_iconst (v := 1) hx hb dX0_gap_17 (by decide) ?_
      have hs := ww_S hs
      exact vx_ret (wa_i hx hb hr hlocks hx0 hcs hW (congrArg Prod.fst hs) (congrArg Prod.snd hs) dX0_gap_18)
    · have hs := ww_F hs hk10
      cases hs
  · have hs := ww_sR hs
    refine wz_ci (vx_runV (As := [.int a2, .int a3, .int a4]) (rest := [.int (0 : Int32), .ref (L 100 0)]) ⟨hx, hb, hml, hown, hts⟩ (c_X1_gap g hgm l L σ a2 a3 a4 hst _ _ hc1) (cwV 3 hts (lw_V q1667 q1668 q1669 q111 q1670) rfl rfl rfl hd_X1_gap ⟨(Nat.le_of_ble_eq_true rfl), (Nat.le_of_ble_eq_true rfl)⟩) (ww_preV hW (pr_st (hW.rd hgm) (Nat.le_of_ble_eq_true rfl)) (obv_0 rfl) rfl) rfl rfl hl.1 rfl (lv_room (Nat.le_of_ble_eq_true rfl)) dX0_gap_7 hrm1) hW (fun H locs L hx1 hW => ?_)
    have hc13 : 0 < gN_ σ4 100 := Nat.lt_of_lt_of_le hc7 (hx1.2.1 100)
    have hcs := hcs.call hc9
    have hrm := hrm1
    refine ww_stk (st1 := [.int v6, .int (0 : Int32), .ref (L 100 0)]) (by rw [hx1.at hp8 (by decide)]) ?_
    have hx0 := hx0.trans hx1
    refine lv_i2l hx hb dX0_gap_10 rfl ?_
    obtain ⟨hc14, hs⟩ := ww_chk hs
    obtain ⟨σ15, e16, hs⟩ := ww_let hs
    refine ww_last hx hb hW hc14 (j := (0 : Int32)) rfl dX0_gap_11 (fun H locs hW => ?_)
    have hW : wv g L σ15 s H locs := by rw [e16]; exact hW
    obtain ⟨hx0, hcs⟩ := lx_s (σ1 := σ15) hx0 hcs (by rw [e16]; exact kp_O)
    have hc17 : 0 < gN_ σ15 100 := by rw [e16]; exact hc13
    refine lv_goto (tgt := 19) hx hb dX0_gap_12 (by decide) ?_
    refine lv_iconst (v := 0) hx hb dX0_gap_19 (by decide) ?_
    have hs := ww_S hs
    exact vx_ret (wa_i hx hb hr hlocks hx0 hcs hW (congrArg Prod.fst hs) (congrArg Prod.snd hs) dX0_gap_20)
