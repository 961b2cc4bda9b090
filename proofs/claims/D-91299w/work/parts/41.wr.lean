set_option maxRecDepth 100000
section
variable {p : Program} {l : Launch} {e : Env} {R : Room} {s : State} {m : MethodId} {args : Array Value} {below : List Frame} {meth : Method} {c : Code} {H : Heap} {locs : List Loc} {cells slots : Nat} {Q : State → Prop} {cc : ByteArray} {pc : Nat} {ls : Array Slot} {rest : List Value} {g : wg_T} {L : ly_T} {σ : st_T}
theorem gf_X5_67 (hexec : p.tables.exec = Jvm.exec) (hb : c.code = cc) (hts : ∀ w ∈ lw_all, w.before args s = true) (hown : s.vm.findClass RX5 = some m.cls) (hW : wv g L σ s H locs) {i : Nat} (hpr : pr σ 87 i) (hdg : decode cc pc = .ok (.getfield 67, 3)) (kk : W p l e R s m args below meth c H locs cells slots Q (F0 m (pc + 3) ls (.int (gF_ σ 87 9 i) :: rest))) : W p l e R s m args below meth c H locs cells slots Q (F0 m pc ls (.ref (L 87 i) :: rest)) :=
  ww_get (d := (0, 0, 0)) hexec hb hts hown hW 87 i 9 hpr (obv_0 rfl) rfl in_X5 rfl (Nat.le_of_ble_eq_true rfl) (hts _ q329) (fun _ h => h) hdg kk
theorem gf_X5_126 (hexec : p.tables.exec = Jvm.exec) (hb : c.code = cc) (hts : ∀ w ∈ lw_all, w.before args s = true) (hown : s.vm.findClass RX5 = some m.cls) (hW : wv g L σ s H locs) {i : Nat} (hpr : pr σ 87 i) (hdg : decode cc pc = .ok (.getfield 126, 3)) (kk : W p l e R s m args below meth c H locs cells slots Q (F0 m (pc + 3) ls (.int (gF_ σ 87 10 i) :: rest))) : W p l e R s m args below meth c H locs cells slots Q (F0 m pc ls (.ref (L 87 i) :: rest)) :=
  ww_get (d := (0, 0, 0)) hexec hb hts hown hW 87 i 10 hpr (obv_0 rfl) rfl in_X5 rfl (Nat.le_of_ble_eq_true rfl) (hts _ q331) (fun _ h => h) hdg kk
theorem pf_X5_24 (hexec : p.tables.exec = Jvm.exec) (hb : c.code = cc) (hts : ∀ w ∈ lw_all, w.before args s = true) (hown : s.vm.findClass RX5 = some m.cls) (hW : wv g L σ s H locs) {i : Nat} (hpr : pr σ 87 i) {v : Int32} (hdg : decode cc pc = .ok (.putfield 24, 3)) (kk : ∀ (H1 : Heap) (locs1 : List Loc), wv g L (sF_ σ 87 3 i v) s H1 locs1 → W p l e R s m args below meth c H1 locs1 cells slots Q (F0 m (pc + 3) ls rest)) : W p l e R s m args below meth c H locs cells slots Q (F0 m pc ls (.int v :: .ref (L 87 i) :: rest)) :=
  ww_put hexec hb hts hown hW 87 i 3 hpr (obv_0 rfl) rfl in_X5 tyX5_ok nmX5 rfl (Nat.le_of_ble_eq_true rfl) (Or.inl (hts _ q317)) (fun _ h => h) rfl rfl rfl rfl hdg kk
theorem pf_X5_28 (hexec : p.tables.exec = Jvm.exec) (hb : c.code = cc) (hts : ∀ w ∈ lw_all, w.before args s = true) (hown : s.vm.findClass RX5 = some m.cls) (hW : wv g L σ s H locs) {i : Nat} (hpr : pr σ 87 i) {v : Int32} (hdg : decode cc pc = .ok (.putfield 28, 3)) (kk : ∀ (H1 : Heap) (locs1 : List Loc), wv g L (sF_ σ 87 4 i v) s H1 locs1 → W p l e R s m args below meth c H1 locs1 cells slots Q (F0 m (pc + 3) ls rest)) : W p l e R s m args below meth c H locs cells slots Q (F0 m pc ls (.int v :: .ref (L 87 i) :: rest)) :=
  ww_put hexec hb hts hown hW 87 i 4 hpr (obv_0 rfl) rfl in_X5 tyX5_ok nmX5 rfl (Nat.le_of_ble_eq_true rfl) (Or.inl (hts _ q319)) (fun _ h => h) rfl rfl rfl rfl hdg kk
theorem pf_X5_31 (hexec : p.tables.exec = Jvm.exec) (hb : c.code = cc) (hts : ∀ w ∈ lw_all, w.before args s = true) (hown : s.vm.findClass RX5 = some m.cls) (hW : wv g L σ s H locs) {i : Nat} (hpr : pr σ 87 i) {v : Int32} (hdg : decode cc pc = .ok (.putfield 31, 3)) (kk : ∀ (H1 : Heap) (locs1 : List Loc), wv g L (sF_ σ 87 5 i v) s H1 locs1 → W p l e R s m args below meth c H1 locs1 cells slots Q (F0 m (pc + 3) ls rest)) : W p l e R s m args below meth c H locs cells slots Q (F0 m pc ls (.int v :: .ref (L 87 i) :: rest)) :=
  ww_put hexec hb hts hown hW 87 i 5 hpr (obv_0 rfl) rfl in_X5 tyX5_ok nmX5 rfl (Nat.le_of_ble_eq_true rfl) (Or.inl (hts _ q321)) (fun _ h => h) rfl rfl rfl rfl hdg kk
theorem pf_X5_34 (hexec : p.tables.exec = Jvm.exec) (hb : c.code = cc) (hts : ∀ w ∈ lw_all, w.before args s = true) (hown : s.vm.findClass RX5 = some m.cls) (hW : wv g L σ s H locs) {i : Nat} (hpr : pr σ 87 i) {v : Int32} (hdg : decode cc pc = .ok (.putfield 34, 3)) (kk : ∀ (H1 : Heap) (locs1 : List Loc), wv g L (sF_ σ 87 6 i v) s H1 locs1 → W p l e R s m args below meth c H1 locs1 cells slots Q (F0 m (pc + 3) ls rest)) : W p l e R s m args below meth c H locs cells slots Q (F0 m pc ls (.int v :: .ref (L 87 i) :: rest)) :=
  ww_put hexec hb hts hown hW 87 i 6 hpr (obv_0 rfl) rfl in_X5 tyX5_ok nmX5 rfl (Nat.le_of_ble_eq_true rfl) (Or.inl (hts _ q323)) (fun _ h => h) rfl rfl rfl rfl hdg kk
theorem pf_X5_50 (hexec : p.tables.exec = Jvm.exec) (hb : c.code = cc) (hts : ∀ w ∈ lw_all, w.before args s = true) (hown : s.vm.findClass RX5 = some m.cls) (hW : wv g L σ s H locs) {i : Nat} (hpr : pr σ 87 i) {n : Nat} (hpn : pr σ 91 n) (hfl : gP_ σ 87 (200 + 7) i ≠ 0) (hdg : decode cc pc = .ok (.putfield 50, 3)) (kk : ∀ (H1 : Heap) (locs1 : List Loc), wv g L (sP_ σ 87 7 i n) s H1 locs1 → W p l e R s m args below meth c H1 locs1 cells slots Q (F0 m (pc + 3) ls rest)) : W p l e R s m args below meth c H locs cells slots Q (F0 m pc ls (.ref (L 91 n) :: .ref (L 87 i) :: rest)) :=
  ww_putP hexec hb hts hown hW 87 i 7 hpr hpn hfl (Nat.le_of_ble_eq_true rfl) (Nat.le_of_ble_eq_true rfl) (obv_0 rfl) rfl in_X5 tyX5_ok nmX5 rfl (Nat.le_of_ble_eq_true rfl) (Or.inl (hts _ q325)) (fun _ h => h) rfl rfl (fun _ => rfl) (fun _ => rfl) hdg kk
theorem pf_X5_67 (hexec : p.tables.exec = Jvm.exec) (hb : c.code = cc) (hts : ∀ w ∈ lw_all, w.before args s = true) (hown : s.vm.findClass RX5 = some m.cls) (hW : wv g L σ s H locs) {i : Nat} (hpr : pr σ 87 i) {v : Int32} (hdg : decode cc pc = .ok (.putfield 67, 3)) (kk : ∀ (H1 : Heap) (locs1 : List Loc), wv g L (sF_ σ 87 9 i v) s H1 locs1 → W p l e R s m args below meth c H1 locs1 cells slots Q (F0 m (pc + 3) ls rest)) : W p l e R s m args below meth c H locs cells slots Q (F0 m pc ls (.int v :: .ref (L 87 i) :: rest)) :=
  ww_put hexec hb hts hown hW 87 i 9 hpr (obv_0 rfl) rfl in_X5 tyX5_ok nmX5 rfl (Nat.le_of_ble_eq_true rfl) (Or.inl (hts _ q329)) (fun _ h => h) rfl rfl rfl rfl hdg kk
theorem pf_X5_126 (hexec : p.tables.exec = Jvm.exec) (hb : c.code = cc) (hts : ∀ w ∈ lw_all, w.before args s = true) (hown : s.vm.findClass RX5 = some m.cls) (hW : wv g L σ s H locs) {i : Nat} (hpr : pr σ 87 i) {v : Int32} (hdg : decode cc pc = .ok (.putfield 126, 3)) (kk : ∀ (H1 : Heap) (locs1 : List Loc), wv g L (sF_ σ 87 10 i v) s H1 locs1 → W p l e R s m args below meth c H1 locs1 cells slots Q (F0 m (pc + 3) ls rest)) : W p l e R s m args below meth c H locs cells slots Q (F0 m pc ls (.int v :: .ref (L 87 i) :: rest)) :=
  ww_put hexec hb hts hown hW 87 i 10 hpr (obv_0 rfl) rfl in_X5 tyX5_ok nmX5 rfl (Nat.le_of_ble_eq_true rfl) (Or.inl (hts _ q331)) (fun _ h => h) rfl rfl rfl rfl hdg kk
end
theorem hd_X5_right : yX5_right.cls = RX5 ∧ yX5_right.cls ≠ "java/lang/invoke/MethodHandle" ∧ yX5_right.cls ≠ "java/lang/invoke/VarHandle" ∧ (parseMethodDescriptor yX5_right.desc).map (fun d => d.parameters.length) = some 1 := by decide +kernel
theorem hd_X5_number : yX5_number.cls = RX5 ∧ yX5_number.cls ≠ "java/lang/invoke/MethodHandle" ∧ yX5_number.cls ≠ "java/lang/invoke/VarHandle" ∧ (parseMethodDescriptor yX5_number.desc).map (fun d => d.parameters.length) = some 2 := by decide +kernel
theorem hd_X5_sign : yX5_sign.cls = RX5 ∧ yX5_sign.cls ≠ "java/lang/invoke/MethodHandle" ∧ yX5_sign.cls ≠ "java/lang/invoke/VarHandle" ∧ (parseMethodDescriptor yX5_sign.desc).map (fun d => d.parameters.length) = some 1 := by decide +kernel
theorem hd_X5_likes : yX5_likes.cls = RX5 ∧ yX5_likes.cls ≠ "java/lang/invoke/MethodHandle" ∧ yX5_likes.cls ≠ "java/lang/invoke/VarHandle" ∧ (parseMethodDescriptor yX5_likes.desc).map (fun d => d.parameters.length) = some 0 := by decide +kernel
theorem hd_X5_choice : yX5_choice.cls = RX5 ∧ yX5_choice.cls ≠ "java/lang/invoke/MethodHandle" ∧ yX5_choice.cls ≠ "java/lang/invoke/VarHandle" ∧ (parseMethodDescriptor yX5_choice.desc).map (fun d => d.parameters.length) = some 0 := by decide +kernel
theorem hd_X5_one : yX5_one.cls = RX5 ∧ yX5_one.cls ≠ "java/lang/invoke/MethodHandle" ∧ yX5_one.cls ≠ "java/lang/invoke/VarHandle" ∧ (parseMethodDescriptor yX5_one.desc).map (fun d => d.parameters.length) = some 0 := by decide +kernel
theorem hd_X5_product : yX5_product.cls = RX5 ∧ yX5_product.cls ≠ "java/lang/invoke/MethodHandle" ∧ yX5_product.cls ≠ "java/lang/invoke/VarHandle" ∧ (parseMethodDescriptor yX5_product.desc).map (fun d => d.parameters.length) = some 0 := by decide +kernel
theorem hd_X5_sum : yX5_sum.cls = RX5 ∧ yX5_sum.cls ≠ "java/lang/invoke/MethodHandle" ∧ yX5_sum.cls ≠ "java/lang/invoke/VarHandle" ∧ (parseMethodDescriptor yX5_sum.desc).map (fun d => d.parameters.length) = some 0 := by decide +kernel
theorem hd_X5_clause : yX5_clause.cls = RX5 ∧ yX5_clause.cls ≠ "java/lang/invoke/MethodHandle" ∧ yX5_clause.cls ≠ "java/lang/invoke/VarHandle" ∧ (parseMethodDescriptor yX5_clause.desc).map (fun d => d.parameters.length) = some 0 := by decide +kernel
theorem hd_X5_read : yX5_read.cls = RX5 ∧ yX5_read.cls ≠ "java/lang/invoke/MethodHandle" ∧ yX5_read.cls ≠ "java/lang/invoke/VarHandle" ∧ (parseMethodDescriptor yX5_read.desc).map (fun d => d.parameters.length) = some 0 := by decide +kernel
def m_X5_right (i0 : Nat) (a1 : Int32) : Option (Nat ⊕ Unit) := if a1 = 0 then some (.inl 4) else some (.inr ())
def m_X5_number_L144 (i0 : Nat) (σ : st_T) (x4 : Int32) (t1 : Int32) : Option ((Nat ⊕ Int32) × st_T) := (m_X5_right i0 t1).bind fun o3 => if i0 < gN_ σ 87 then sm_ o3 (fun k4 => some ((.inl k4), σ)) (fun v5 => some ((.inr x4), σ)) else none
def m_X5_number_L143 (i0 : Nat) (k144 : st_T → Int32 → Int32 → Option ((Nat ⊕ Int32) × st_T)) (σ : st_T) (x4 : Int32) : Option ((Nat ⊕ Int32) × st_T) := k144 σ x4 (0 : Int32)
def m_X5_number_L121 (i0 : Nat) (σ : st_T) (x1 : Int32) (x2 : Int32) (x4 : Int32) (x5 : Int32) : Option ((Nat ⊕ Int32) × st_T) := if x5 ≤ 0 then (m_X5_number_L143 i0 (m_X5_number_L144 i0)) σ x4 else if x4 < x1 then (m_X5_number_L143 i0 (m_X5_number_L144 i0)) σ x4 else if x2 < x4 then (m_X5_number_L143 i0 (m_X5_number_L144 i0)) σ x4 else (m_X5_number_L144 i0) σ x4 (1 : Int32)
def m_X5_number_L116 (i0 : Nat) (k121 : st_T → Int32 → Int32 → Int32 → Int32 → Option ((Nat ⊕ Int32) × st_T)) (σ : st_T) (x1 : Int32) (x2 : Int32) (x3 : Int32) (x4 : Int32) (x5 : Int32) : Option ((Nat ⊕ Int32) × st_T) := if i0 < gN_ σ 87 then lt_ (sF_ σ 87 8 i0 x3) fun σ11 => k121 σ11 x1 x2 x4 x5 else none
def m_X5_number_L99 (i0 : Nat) (σ : st_T) (x1 : Int32) (x2 : Int32) (x3 : Int32) (x4 : Int32) (x5 : Int32) : Option ((Nat ⊕ Int32) × st_T) := if x5 = 0 then (m_X5_number_L116 i0 (m_X5_number_L121 i0)) σ x1 x2 x3 x4 x5 else if x4 < x1 then (m_X5_number_L116 i0 (m_X5_number_L121 i0)) σ x1 x2 x3 x4 x5 else if x4 ≤ x2 then (m_X5_number_L121 i0) σ x1 x2 x4 x5 else (m_X5_number_L116 i0 (m_X5_number_L121 i0)) σ x1 x2 x3 x4 x5
def m_X5_number_L57 (i0 : Nat) (k16 : st_T → Int32 → Int32 → Int32 → Int32 → Int32 → Option ((Nat ⊕ Int32) × st_T)) (σ : st_T) (x1 : Int32) (x2 : Int32) (x3 : Int32) (x4 : Int32) (x5 : Int32) (t1 : Int32) : Option ((Nat ⊕ Int32) × st_T) := (m_X5_right i0 t1).bind fun o19 => if i0 < gN_ σ 87 then sm_ o19 (fun k20 => some ((.inl k20), σ)) (fun v21 => if inb (gF_ σ 87 8 i0) 400 then lt_ (sF_ σ 87 8 i0 ((gF_ σ 87 8 i0) + (1 : Int32))) fun σ24 => k16 σ24 x1 x2 x3 ((((10 : Int32) * x4) + (gA_ σ 10 0 (gF_ σ 87 8 i0).toNatClampNeg)) - (48 : Int32)) (x5 + (1 : Int32)) else none) else none
def m_X5_number_L16 (i0 : Nat) : Nat → st_T → Int32 → Int32 → Int32 → Int32 → Int32 → Option ((Nat ⊕ Int32) × st_T)
  | 0, _, _, _, _, _, _ => none
  | n + 1, σ, x1, x2, x3, x4, x5 => if i0 < gN_ σ 87 then if (gF_ σ 87 0 i0) ≤ (gF_ σ 87 8 i0) then (m_X5_number_L99 i0) σ x1 x2 x3 x4 x5 else if inb (gF_ σ 87 8 i0) 400 then (m_X1_isDigit (gA_ σ 10 0 (gF_ σ 87 8 i0).toNatClampNeg)).bind fun v32 => if v32 = 0 then (m_X5_number_L99 i0) σ x1 x2 x3 x4 x5 else if (3 : Int32) ≤ x5 then (m_X5_number_L57 i0 (m_X5_number_L16 i0 n)) σ x1 x2 x3 x4 x5 (0 : Int32) else (m_X5_number_L57 i0 (m_X5_number_L16 i0 n)) σ x1 x2 x3 x4 x5 (1 : Int32) else none else none
def m_X5_number (σ : st_T) (i0 : Nat) (a1 : Int32) (a2 : Int32) : Option ((Nat ⊕ Int32) × st_T) := bn2_ (m_X5_now σ i0) fun v37 σ38 => if i0 < gN_ σ 87 then if i0 < gN_ σ38 87 then (m_X5_number_L16 i0 fu_) σ38 a1 a2 (gF_ σ38 87 8 i0) (0 : Int32) (0 : Int32) else none else none
def m_X5_sign_L14 (i0 : Nat) (σ : st_T) (t1 : Int32) : Option ((Nat ⊕ Unit) × st_T) := (m_X5_right i0 t1).bind fun o3 => if i0 < gN_ σ 87 then sm_ o3 (fun k4 => some ((.inl k4), σ)) (fun v5 => lt_ (sF_ σ 87 8 i0 ((gF_ σ 87 8 i0) + (1 : Int32))) fun σ7 => some ((.inr ()), σ7)) else none
def m_X5_sign (σ : st_T) (i0 : Nat) (a1 : Int32) : Option ((Nat ⊕ Unit) × st_T) := bn2_ (m_X5_now σ i0) fun v12 σ13 => if i0 < gN_ σ 87 then if v12 = a1 then (m_X5_sign_L14 i0) σ13 (1 : Int32) else (m_X5_sign_L14 i0) σ13 (0 : Int32) else none
def m_X5_likes_L62 (i0 : Nat) (k45 : st_T → Int32 → Option ((Nat ⊕ Unit) × st_T)) (σ : st_T) (x1 : Int32) (t1 : Int32) : Option ((Nat ⊕ Unit) × st_T) := (m_X5_right i0 t1).bind fun o3 => if i0 < gN_ σ 87 then sm_ o3 (fun k4 => some ((.inl k4), σ)) (fun v5 => if i0 < gN_ σ 88 then if inb x1 4 then if i0 < gN_ σ 90 then bn2_ (m_X5_number σ i0 (0 : Int32) (100 : Int32)) fun o12 σ13 => sm_ o12 (fun k14 => some ((.inl k14), σ13)) (fun v15 => if i0 < gN_ σ13 88 then if inb (gA_ σ 90 i0 x1.toNatClampNeg) 12 then lt_ (sE_ σ13 89 (4 * i0 + x1.toNatClampNeg) (gA_ σ 90 i0 x1.toNatClampNeg).toNatClampNeg v15) fun σ18 => if i0 < gN_ σ18 87 then if i0 < gN_ σ18 90 then lt_ (sE_ σ18 90 i0 x1.toNatClampNeg ((gA_ σ18 90 i0 x1.toNatClampNeg) + (1 : Int32))) fun σ23 => bn2_ (m_X5_now σ23 i0) fun v30 σ31 => (m_X1_isDigit v30).bind fun v34 => if v34 = 0 then some ((.inr ()), σ31) else k45 σ31 x1 else none else none else none else none) else none else none else none) else none
def m_X5_likes_L45 (i0 : Nat) : Nat → st_T → Int32 → Option ((Nat ⊕ Unit) × st_T)
  | 0, _, _ => none
  | n + 1, σ, x1 => if i0 < gN_ σ 87 then if i0 < gN_ σ 90 then if inb x1 4 then if (12 : Int32) ≤ (gA_ σ 90 i0 x1.toNatClampNeg) then (m_X5_likes_L62 i0 (m_X5_likes_L45 i0 n)) σ x1 (0 : Int32) else (m_X5_likes_L62 i0 (m_X5_likes_L45 i0 n)) σ x1 (1 : Int32) else none else none else none
def m_X5_likes_L35 (i0 : Nat) (σ : st_T) (x1 : Int32) (t1 : Int32) : Option ((Nat ⊕ Unit) × st_T) := (m_X5_right i0 t1).bind fun o42 => if i0 < gN_ σ 87 then sm_ o42 (fun k43 => some ((.inl k43), σ)) (fun v44 => if i0 < gN_ σ 90 then if inb x1 4 then lt_ (sE_ σ 90 i0 x1.toNatClampNeg (0 : Int32)) fun σ48 => (m_X5_likes_L45 i0 fu_) σ48 x1 else none else none) else none
def m_X5_likes_L24 (i0 : Nat) (σ : st_T) (x1 : Int32) : Option ((Nat ⊕ Unit) × st_T) := if (4 : Int32) ≤ x1 then (m_X5_likes_L35 i0) σ x1 (0 : Int32) else (m_X5_likes_L35 i0) σ x1 (1 : Int32)
def m_X5_likes_L2 (i0 : Nat) : Nat → st_T → Int32 → Option ((Nat ⊕ Unit) × st_T)
  | 0, _, _ => none
  | n + 1, σ, x1 => if (4 : Int32) ≤ x1 then (m_X5_likes_L24 i0) σ x1 else (m_X1_cropName x1).bind fun v56 => bn2_ (m_X5_eats σ i0 v56) fun v59 σ60 => if i0 < gN_ σ 87 then if v59 = 0 then (m_X5_likes_L2 i0 n) σ60 (x1 + (1 : Int32)) else (m_X5_likes_L24 i0) σ60 x1 else none
def m_X5_likes (σ : st_T) (i0 : Nat) : Option ((Nat ⊕ Unit) × st_T) := (m_X5_likes_L2 i0 fu_) σ (0 : Int32)
noncomputable def m_X5_choice_L34 (rec : st_T → Nat → Option ((Nat ⊕ Nat) × st_T)) (i0 : Nat) (σ : st_T) (ix1 : Nat) (x2 : Int32) (t1 : Int32) : Option ((Nat ⊕ Nat) × st_T) := (m_X5_right i0 t1).bind fun o3 => if i0 < gN_ σ 87 then sm_ o3 (fun k4 => some ((.inl k4), (bX_ σ))) (fun v5 => lt_ (sF_ σ 87 8 i0 ((gF_ σ 87 8 i0) + (1 : Int32))) fun σ7 => if ix1 < gN_ σ7 91 then lt_ (nO_ σ7 91 5 3) fun σ13 => ck2_ σ13 (bn2_ (rec σ13 i0) fun o20 σ21 => if cu_ σ13 ≤ cu_ σ21 ∧ su_ σ13 ≤ su_ σ21 then ck2_ σ21 (sm_ o20 (fun k22 => some ((.inl k22), σ21)) (fun v23 => (m_X12_init σ21 (gN_ σ7 91) x2 ix1 v23).bind fun σ33 => pif_ (kp_ σ21 σ33) (pif_ (rdy σ33) (bn2_ (m_X5_sign σ33 i0 (44 : Int32)) fun o39 σ40 => pif_ (kp_ σ33 σ40) (sm_ o39 (fun k41 => some ((.inl k41), (bX_ σ40))) (fun v42 => bn2_ (rec σ40 i0) fun o48 σ49 => if cu_ σ40 ≤ cu_ σ49 ∧ su_ σ40 ≤ su_ σ49 then ck2_ σ49 (sm_ o48 (fun k50 => some ((.inl k50), σ49)) (fun v51 => bn2_ (m_X5_sign σ49 i0 (44 : Int32)) fun o60 σ61 => pif_ (kp_ σ49 σ61) (sm_ o60 (fun k62 => some ((.inl k62), (bX_ σ61))) (fun v63 => if v51 < gN_ σ61 91 then lt_ (nO_ σ61 91 6 3) fun σ71 => ck2_ σ71 (bn2_ (rec σ71 i0) fun o80 σ81 => if cu_ σ71 ≤ cu_ σ81 ∧ su_ σ71 ≤ su_ σ81 then ck2_ σ81 (sm_ o80 (fun k82 => some ((.inl k82), σ81)) (fun v83 => (m_X13_init σ81 (gN_ σ61 91) (gN_ σ7 91) v51 v83).bind fun σ95 => pif_ (kp_ σ81 σ95) (pif_ (rdy σ95) (some ((.inr (gN_ σ61 91)), σ95))))) else none) else none)))) else none)))))) else none) else none) else none
noncomputable def m_X5_choice_L29 (rec : st_T → Nat → Option ((Nat ⊕ Nat) × st_T)) (i0 : Nat) (k34 : st_T → Nat → Int32 → Int32 → Option ((Nat ⊕ Nat) × st_T)) (σ : st_T) (ix1 : Nat) (x2 : Int32) : Option ((Nat ⊕ Nat) × st_T) := k34 σ ix1 x2 (1 : Int32)
noncomputable def m_X5_choice (rec : st_T → Nat → Option ((Nat ⊕ Nat) × st_T)) (σ : st_T) (i0 : Nat) : Option ((Nat ⊕ Nat) × st_T) := bn2_ (rec σ i0) fun o103 σ104 => if i0 < gN_ σ 87 then if cu_ σ ≤ cu_ σ104 ∧ su_ σ ≤ su_ σ104 then ck2_ σ104 (sm_ o103 (fun k105 => some ((.inl k105), σ104)) (fun v106 => bn2_ (m_X5_now σ104 i0) fun v113 σ114 => pif_ (kp_ σ104 σ114) (if v113 = (60 : Int32) then (m_X5_choice_L29 rec i0 (m_X5_choice_L34 rec i0)) σ114 v106 v113 else if v113 = (62 : Int32) then (m_X5_choice_L29 rec i0 (m_X5_choice_L34 rec i0)) σ114 v106 v113 else if v113 = (61 : Int32) then (m_X5_choice_L29 rec i0 (m_X5_choice_L34 rec i0)) σ114 v106 v113 else (m_X5_choice_L34 rec i0) σ114 v106 v113 (0 : Int32)))) else none else none
noncomputable def m_X5_one_L221 (rec : st_T → Nat → Option ((Nat ⊕ Nat) × st_T)) (i0 : Nat) (σ : st_T) (ix4 : Nat) : Option ((Nat ⊕ Nat) × st_T) := bn2_ (m_X5_sign σ i0 (41 : Int32)) fun o3 σ4 => pif_ (kp_ σ σ4) (if i0 < gN_ σ 87 then sm_ o3 (fun k5 => some ((.inl k5), (bX_ σ4))) (fun v6 => lt_ (sF_ σ4 87 10 i0 ((gF_ σ4 87 10 i0) - (1 : Int32))) fun σ9 => some ((.inr ix4), σ9)) else none)
noncomputable def m_X5_one_L219 (rec : st_T → Nat → Option ((Nat ⊕ Nat) × st_T)) (i0 : Nat) (k221 : st_T → Nat → Option ((Nat ⊕ Nat) × st_T)) (σ : st_T) (it0 : Nat) : Option ((Nat ⊕ Nat) × st_T) := k221 σ it0
noncomputable def m_X5_one_L180 (rec : st_T → Nat → Option ((Nat ⊕ Nat) × st_T)) (i0 : Nat) (k221 : st_T → Nat → Option ((Nat ⊕ Nat) × st_T)) (σ : st_T) (x1 : Int32) (ix4 : Nat) : Option ((Nat ⊕ Nat) × st_T) := bn2_ (m_X5_sign σ i0 (44 : Int32)) fun o14 σ15 => pif_ (kp_ σ σ15) (if i0 < gN_ σ 87 then sm_ o14 (fun k16 => some ((.inl k16), (bX_ σ15))) (fun v17 => if x1 = 0 then if ix4 < gN_ σ15 91 then lt_ (nO_ σ15 91 4 2) fun σ24 => ck2_ σ24 (bn2_ (rec σ24 i0) fun o31 σ32 => if cu_ σ24 ≤ cu_ σ32 ∧ su_ σ24 ≤ su_ σ32 then ck2_ σ32 (sm_ o31 (fun k33 => some ((.inl k33), σ32)) (fun v34 => (m_X15_init σ32 (gN_ σ15 91) ix4 v34).bind fun σ44 => pif_ (kp_ σ32 σ44) (pif_ (rdy σ44) ((m_X5_one_L219 rec i0 k221) σ44 (gN_ σ15 91))))) else none) else none else if ix4 < gN_ σ15 91 then lt_ (nO_ σ15 91 3 2) fun σ51 => ck2_ σ51 (bn2_ (rec σ51 i0) fun o58 σ59 => if cu_ σ51 ≤ cu_ σ59 ∧ su_ σ51 ≤ su_ σ59 then ck2_ σ59 (sm_ o58 (fun k60 => some ((.inl k60), σ59)) (fun v61 => (m_X14_init σ59 (gN_ σ15 91) ix4 v61).bind fun σ71 => pif_ (kp_ σ59 σ71) (pif_ (rdy σ71) ((m_X5_one_L219 rec i0 k221) σ71 (gN_ σ15 91))))) else none) else none) else none)
noncomputable def m_X5_one_L170 (rec : st_T → Nat → Option ((Nat ⊕ Nat) × st_T)) (i0 : Nat) (σ : st_T) (x1 : Int32) (x2 : Int32) (it0 : Nat) : Option ((Nat ⊕ Nat) × st_T) := if x1 = 0 then if x2 = 0 then (m_X5_one_L221 rec i0) σ it0 else (m_X5_one_L180 rec i0 (m_X5_one_L221 rec i0)) σ x1 it0 else (m_X5_one_L180 rec i0 (m_X5_one_L221 rec i0)) σ x1 it0
noncomputable def m_X5_one_L132 (rec : st_T → Nat → Option ((Nat ⊕ Nat) × st_T)) (i0 : Nat) (σ : st_T) (x1 : Int32) (x2 : Int32) (x3 : Int32) (t1 : Int32) : Option ((Nat ⊕ Nat) × st_T) := (m_X5_right i0 t1).bind fun o79 => if i0 < gN_ σ 87 then sm_ o79 (fun k80 => some ((.inl k80), (bX_ σ))) (fun v81 => lt_ (sF_ σ 87 10 i0 ((gF_ σ 87 10 i0) + (1 : Int32))) fun σ83 => lt_ (sF_ σ83 87 8 i0 ((gF_ σ83 87 8 i0) + (1 : Int32))) fun σ86 => if x3 = 0 then bn2_ (rec σ86 i0) fun o92 σ93 => if cu_ σ86 ≤ cu_ σ93 ∧ su_ σ86 ≤ su_ σ93 then ck2_ σ93 (sm_ o92 (fun k94 => some ((.inl k94), σ93)) (fun v95 => (m_X5_one_L170 rec i0) σ93 x1 x2 v95)) else none else bn2_ (m_X5_choice rec σ86 i0) fun o101 σ102 => if cu_ σ86 ≤ cu_ σ102 ∧ su_ σ86 ≤ su_ σ102 then ck2_ σ102 (sm_ o101 (fun k103 => some ((.inl k103), σ102)) (fun v104 => (m_X5_one_L170 rec i0) σ102 x1 x2 v104)) else none) else none
noncomputable def m_X5_one_L131 (rec : st_T → Nat → Option ((Nat ⊕ Nat) × st_T)) (i0 : Nat) (k132 : st_T → Int32 → Int32 → Int32 → Int32 → Option ((Nat ⊕ Nat) × st_T)) (σ : st_T) (x1 : Int32) (x2 : Int32) (x3 : Int32) : Option ((Nat ⊕ Nat) × st_T) := k132 σ x1 x2 x3 (0 : Int32)
noncomputable def m_X5_one_L107 (rec : st_T → Nat → Option ((Nat ⊕ Nat) × st_T)) (i0 : Nat) (σ : st_T) (x1 : Int32) (x2 : Int32) (t0 : Int32) : Option ((Nat ⊕ Nat) × st_T) := bn2_ (m_X5_now σ i0) fun v110 σ111 => pif_ (kp_ σ σ111) (if i0 < gN_ σ 87 then if v110 = (40 : Int32) then if (8 : Int32) ≤ (gF_ σ111 87 10 i0) then (m_X5_one_L131 rec i0 (m_X5_one_L132 rec i0)) σ111 x1 x2 t0 else (m_X5_one_L132 rec i0) σ111 x1 x2 t0 (1 : Int32) else (m_X5_one_L131 rec i0 (m_X5_one_L132 rec i0)) σ111 x1 x2 t0 else none)
noncomputable def m_X5_one_L106 (rec : st_T → Nat → Option ((Nat ⊕ Nat) × st_T)) (i0 : Nat) (k107 : st_T → Int32 → Int32 → Int32 → Option ((Nat ⊕ Nat) × st_T)) (σ : st_T) (x1 : Int32) (x2 : Int32) : Option ((Nat ⊕ Nat) × st_T) := k107 σ x1 x2 (0 : Int32)
noncomputable def m_X5_one_L84 (rec : st_T → Nat → Option ((Nat ⊕ Nat) × st_T)) (i0 : Nat) (σ : st_T) (x1 : Int32) (t0 : Int32) : Option ((Nat ⊕ Nat) × st_T) := if x1 = 0 then if t0 = 0 then bn2_ (m_X5_eats σ i0 17) fun v120 σ121 => pif_ (kp_ σ σ121) (if i0 < gN_ σ 87 then if v120 = 0 then (m_X5_one_L106 rec i0 (m_X5_one_L107 rec i0)) σ121 x1 t0 else (m_X5_one_L107 rec i0) σ121 x1 t0 (1 : Int32) else none) else (m_X5_one_L106 rec i0 (m_X5_one_L107 rec i0)) σ x1 t0 else (m_X5_one_L106 rec i0 (m_X5_one_L107 rec i0)) σ x1 t0
noncomputable def m_X5_one_L83 (rec : st_T → Nat → Option ((Nat ⊕ Nat) × st_T)) (i0 : Nat) (k84 : st_T → Int32 → Int32 → Option ((Nat ⊕ Nat) × st_T)) (σ : st_T) (x1 : Int32) : Option ((Nat ⊕ Nat) × st_T) := k84 σ x1 (0 : Int32)
noncomputable def m_X5_one_L28 (rec : st_T → Nat → Option ((Nat ⊕ Nat) × st_T)) (i0 : Nat) : Nat → st_T → Int32 → Option ((Nat ⊕ Nat) × st_T)
  | 0, _, _ => none
  | n + 1, σ, x1 => if (5 : Int32) ≤ x1 then bn2_ (m_X5_eats σ i0 15) fun v128 σ129 => pif_ (kp_ σ σ129) (if i0 < gN_ σ 87 then if v128 = 0 then bn2_ (m_X5_eats σ129 i0 16) fun v135 σ136 => pif_ (kp_ σ129 σ136) (if v135 = 0 then (m_X5_one_L83 rec i0 (m_X5_one_L84 rec i0)) σ136 v128 else (m_X5_one_L84 rec i0) σ136 v128 (1 : Int32)) else (m_X5_one_L83 rec i0 (m_X5_one_L84 rec i0)) σ129 v128 else none) else (m_X1_toldName x1).bind fun v141 => bn2_ (m_X5_eats σ i0 v141) fun v144 σ145 => pif_ (kp_ σ σ145) (if i0 < gN_ σ 87 then if v144 = 0 then (m_X5_one_L28 rec i0 n) σ145 (x1 + (1 : Int32)) else lt_ (nO_ σ145 91 1 1) fun σ149 => ck2_ σ149 ((m_X8_init σ149 (gN_ σ145 91) x1).bind fun σ155 => pif_ (kp_ σ149 σ155) (pif_ (rdy σ155) (some ((.inr (gN_ σ145 91)), σ155)))) else none)
noncomputable def m_X5_one (rec : st_T → Nat → Option ((Nat ⊕ Nat) × st_T)) (σ : st_T) (i0 : Nat) : Option ((Nat ⊕ Nat) × st_T) := bn2_ (m_X5_now σ i0) fun v160 σ161 => pif_ (kp_ σ σ161) (if i0 < gN_ σ 87 then (m_X1_isDigit v160).bind fun v166 => if v166 = 0 then (m_X5_one_L28 rec i0 fu_) σ161 (0 : Int32) else lt_ (nO_ σ161 91 0 1) fun σ169 => ck2_ σ169 (bn2_ (m_X5_number σ169 i0 (0 : Int32) (999 : Int32)) fun o175 σ176 => pif_ (kp_ σ169 σ176) (sm_ o175 (fun k177 => some ((.inl k177), (bX_ σ176))) (fun v178 => (m_X9_init σ176 (gN_ σ161 91) v178).bind fun σ183 => pif_ (kp_ σ176 σ183) (pif_ (rdy σ183) (some ((.inr (gN_ σ161 91)), σ183)))))) else none)
noncomputable def m_X5_product_L22 (rec : st_T → Nat → Option ((Nat ⊕ Nat) × st_T)) (i0 : Nat) (k10 : st_T → Nat → Int32 → Option ((Nat ⊕ Nat) × st_T)) (σ : st_T) (ix1 : Nat) (x2 : Int32) : Option ((Nat ⊕ Nat) × st_T) := if i0 < gN_ σ 87 then lt_ (sF_ σ 87 8 i0 ((gF_ σ 87 8 i0) + (1 : Int32))) fun σ2 => if ix1 < gN_ σ2 91 then lt_ (nO_ σ2 91 2 3) fun σ8 => ck2_ σ8 (bn2_ (m_X5_one rec σ8 i0) fun o15 σ16 => if cu_ σ8 ≤ cu_ σ16 ∧ su_ σ8 ≤ su_ σ16 then ck2_ σ16 (sm_ o15 (fun k17 => some ((.inl k17), σ16)) (fun v18 => (m_X7_init σ16 (gN_ σ2 91) x2 ix1 v18).bind fun σ28 => pif_ (kp_ σ16 σ28) (pif_ (rdy σ28) (bn2_ (m_X5_now σ28 i0) fun v34 σ35 => pif_ (kp_ σ28 σ35) (k10 σ35 (gN_ σ2 91) v34))))) else none) else none else none
noncomputable def m_X5_product_L10 (rec : st_T → Nat → Option ((Nat ⊕ Nat) × st_T)) (i0 : Nat) : Nat → st_T → Nat → Int32 → Option ((Nat ⊕ Nat) × st_T)
  | 0, _, _, _ => none
  | n + 1, σ, ix1, x2 => if x2 = (42 : Int32) then (m_X5_product_L22 rec i0 (m_X5_product_L10 rec i0 n)) σ ix1 x2 else if x2 = (47 : Int32) then (m_X5_product_L22 rec i0 (m_X5_product_L10 rec i0 n)) σ ix1 x2 else some ((.inr ix1), σ)
noncomputable def m_X5_product (rec : st_T → Nat → Option ((Nat ⊕ Nat) × st_T)) (σ : st_T) (i0 : Nat) : Option ((Nat ⊕ Nat) × st_T) := bn2_ (m_X5_one rec σ i0) fun o43 σ44 => if i0 < gN_ σ 87 then if cu_ σ ≤ cu_ σ44 ∧ su_ σ ≤ su_ σ44 then ck2_ σ44 (sm_ o43 (fun k45 => some ((.inl k45), σ44)) (fun v46 => bn2_ (m_X5_now σ44 i0) fun v53 σ54 => pif_ (kp_ σ44 σ54) ((m_X5_product_L10 rec i0 fu_) σ54 v46 v53))) else none else none
noncomputable def m_X5_sum_L22 (rec : st_T → Nat → Option ((Nat ⊕ Nat) × st_T)) (i0 : Nat) (k10 : st_T → Nat → Int32 → Option ((Nat ⊕ Nat) × st_T)) (σ : st_T) (ix1 : Nat) (x2 : Int32) : Option ((Nat ⊕ Nat) × st_T) := if i0 < gN_ σ 87 then lt_ (sF_ σ 87 8 i0 ((gF_ σ 87 8 i0) + (1 : Int32))) fun σ2 => if ix1 < gN_ σ2 91 then lt_ (nO_ σ2 91 2 3) fun σ8 => ck2_ σ8 (bn2_ (m_X5_product rec σ8 i0) fun o15 σ16 => if cu_ σ8 ≤ cu_ σ16 ∧ su_ σ8 ≤ su_ σ16 then ck2_ σ16 (sm_ o15 (fun k17 => some ((.inl k17), σ16)) (fun v18 => (m_X7_init σ16 (gN_ σ2 91) x2 ix1 v18).bind fun σ28 => pif_ (kp_ σ16 σ28) (pif_ (rdy σ28) (bn2_ (m_X5_now σ28 i0) fun v34 σ35 => pif_ (kp_ σ28 σ35) (k10 σ35 (gN_ σ2 91) v34))))) else none) else none else none
noncomputable def m_X5_sum_L10 (rec : st_T → Nat → Option ((Nat ⊕ Nat) × st_T)) (i0 : Nat) : Nat → st_T → Nat → Int32 → Option ((Nat ⊕ Nat) × st_T)
  | 0, _, _, _ => none
  | n + 1, σ, ix1, x2 => if x2 = (43 : Int32) then (m_X5_sum_L22 rec i0 (m_X5_sum_L10 rec i0 n)) σ ix1 x2 else if x2 = (45 : Int32) then (m_X5_sum_L22 rec i0 (m_X5_sum_L10 rec i0 n)) σ ix1 x2 else some ((.inr ix1), σ)
noncomputable def m_X5_sum_b (rec : st_T → Nat → Option ((Nat ⊕ Nat) × st_T)) (σ : st_T) (i0 : Nat) : Option ((Nat ⊕ Nat) × st_T) := bn2_ (m_X5_product rec σ i0) fun o43 σ44 => if i0 < gN_ σ 87 then if cu_ σ ≤ cu_ σ44 ∧ su_ σ ≤ su_ σ44 then ck2_ σ44 (sm_ o43 (fun k45 => some ((.inl k45), σ44)) (fun v46 => bn2_ (m_X5_now σ44 i0) fun v53 σ54 => pif_ (kp_ σ44 σ54) ((m_X5_sum_L10 rec i0 fu_) σ54 v46 v53))) else none else none
noncomputable def m_X5_sum : Nat → st_T → Nat → Option ((Nat ⊕ Nat) × st_T)
  | 0, _, _ => none
  | n + 1, σ, i0 => m_X5_sum_b (m_X5_sum n) σ i0
noncomputable def m_X5_clause_L128 (i0 : Nat) (σ : st_T)  : Option ((Nat ⊕ Unit) × st_T) := some ((.inr ()), σ)
noncomputable def m_X5_clause (σ : st_T) (i0 : Nat) : Option ((Nat ⊕ Unit) × st_T) := bn2_ (m_X5_eats σ i0 9) fun v3 σ4 => pif_ (kp_ σ σ4) (if i0 < gN_ σ 87 then if v3 = 0 then bn2_ (m_X5_eats σ4 i0 10) fun v10 σ11 => pif_ (kp_ σ4 σ11) (if v10 = 0 then bn2_ (m_X5_eats σ11 i0 11) fun v16 σ17 => pif_ (kp_ σ11 σ17) (if v16 = 0 then bn2_ (m_X5_eats σ17 i0 12) fun v22 σ23 => pif_ (kp_ σ17 σ23) (if v22 = 0 then bn2_ (m_X5_eats σ23 i0 13) fun v28 σ29 => pif_ (kp_ σ23 σ29) (if v28 = 0 then bn2_ (m_X5_eats σ29 i0 14) fun v34 σ35 => pif_ (kp_ σ29 σ35) ((m_X5_right i0 v34).bind fun o39 => sm_ o39 (fun k40 => some ((.inl k40), (bX_ σ35))) (fun v41 => bn2_ (m_X5_sum 12 σ35 i0) fun o44 σ45 => if cu_ σ35 ≤ cu_ σ45 ∧ su_ σ35 ≤ su_ σ45 then ck2_ σ45 (sm_ o44 (fun k46 => some ((.inl k46), σ45)) (fun v47 => if v47 < gN_ σ45 91 then lt_ (sP_ σ45 87 7 i0 v47) fun σ52 => (m_X5_clause_L128 i0) σ52 else none)) else none)) else bn2_ (m_X5_number σ29 i0 (0 : Int32) (999 : Int32)) fun o58 σ59 => pif_ (kp_ σ29 σ59) (sm_ o58 (fun k60 => some ((.inl k60), (bX_ σ59))) (fun v61 => lt_ (sF_ σ59 87 6 i0 v61) fun σ63 => (m_X5_clause_L128 i0) σ63))) else bn2_ (m_X5_number σ23 i0 (0 : Int32) (100 : Int32)) fun o68 σ69 => pif_ (kp_ σ23 σ69) (sm_ o68 (fun k70 => some ((.inl k70), (bX_ σ69))) (fun v71 => lt_ (sF_ σ69 87 5 i0 v71) fun σ73 => (m_X5_clause_L128 i0) σ73))) else bn2_ (m_X5_number σ17 i0 (0 : Int32) (500 : Int32)) fun o78 σ79 => pif_ (kp_ σ17 σ79) (sm_ o78 (fun k80 => some ((.inl k80), (bX_ σ79))) (fun v81 => lt_ (sF_ σ79 87 4 i0 v81) fun σ83 => (m_X5_clause_L128 i0) σ83))) else bn2_ (m_X5_number σ11 i0 (1 : Int32) (50 : Int32)) fun o88 σ89 => pif_ (kp_ σ11 σ89) (sm_ o88 (fun k90 => some ((.inl k90), (bX_ σ89))) (fun v91 => lt_ (sF_ σ89 87 3 i0 v91) fun σ93 => (m_X5_clause_L128 i0) σ93))) else bn2_ (m_X5_likes σ4 i0) fun o98 σ99 => pif_ (kp_ σ4 σ99) (sm_ o98 (fun k100 => some ((.inl k100), (bX_ σ99))) (fun v101 => (m_X5_clause_L128 i0) σ99)) else none)
noncomputable def m_X5_read_L23 (i0 : Nat) (k0 : st_T → Option ((Nat ⊕ Unit) × st_T)) (σ : st_T) (t1 : Int32) : Option ((Nat ⊕ Unit) × st_T) := (m_X5_right i0 t1).bind fun o3 => if i0 < gN_ σ 87 then sm_ o3 (fun k4 => some ((.inl k4), (bX_ σ))) (fun v5 => bn2_ (m_X5_clause σ i0) fun o9 σ10 => if cu_ σ ≤ cu_ σ10 ∧ su_ σ ≤ su_ σ10 then ck2_ σ10 (sm_ o9 (fun k11 => some ((.inl k11), σ10)) (fun v12 => bn2_ (m_X5_sign σ10 i0 (59 : Int32)) fun o18 σ19 => pif_ (kp_ σ10 σ19) (sm_ o18 (fun k20 => some ((.inl k20), (bX_ σ19))) (fun v21 => lt_ (sF_ σ19 87 9 i0 ((gF_ σ19 87 9 i0) + (1 : Int32))) fun σ23 => k0 σ23)))) else none) else none
noncomputable def m_X5_read_L0 (i0 : Nat) : Nat → st_T → Option ((Nat ⊕ Unit) × st_T)
  | 0, _ => none
  | n + 1, σ => bn2_ (m_X5_now σ i0) fun v28 σ29 => pif_ (kp_ σ σ29) (if i0 < gN_ σ 87 then if v28 = (-1 : Int32) then some ((.inr ()), σ29) else if (12 : Int32) ≤ (gF_ σ29 87 9 i0) then (m_X5_read_L23 i0 (m_X5_read_L0 i0 n)) σ29 (0 : Int32) else (m_X5_read_L23 i0 (m_X5_read_L0 i0 n)) σ29 (1 : Int32) else none)
noncomputable def m_X5_read (σ : st_T) (i0 : Nat) : Option ((Nat ⊕ Unit) × st_T) := (m_X5_read_L0 i0 fu_) σ
set_option maxHeartbeats 4000000 in
theorem c_X5_right (g : wg_T) (hgm : gm g = true) (l : Launch) (L : ly_T) (σ : st_T) (i0 : Nat) (a1 : Int32) (hst : l.stackTraces = false) (o_ : Nat ⊕ Unit) (hs : m_X5_right i0 a1 = some o_) : XV g l yX5_right (ws_ yX5_right cX5_right 2 none) 8 140 (xc o_) (xs o_) [.ref (L 87 i0), .int a1] L σ o_ σ := by
  refine xbody.met (by decide) (Nat.le_of_ble_eq_true rfl) ?_
  intro p e s m args below meth c ls hx hb hr hml hlocks hts hown hnm hout hW hl
  have hown : s.vm.findClass RX5 = some m.cls := hown
  have hl : lv_has ls 2 [(0, .ref (L 87 i0)), (1, .int a1)] := hl
  unfold m_X5_right at hs
  refine lv_iload_n hx hb dX5_right_0 rfl (lv_at hl 1 rfl) ?_
  refine lv_if_ne (tgt := 12) hx hb dX5_right_1 (by decide) (fun hc1 => ?_) (fun hc1 => ?_)
  · have hs := ww_F hs hc1
    have hs := ww_S hs
    exact wx_v hx hb hr hlocks hW hs rfl (Nat.zero_le _) (Nat.zero_le _) dX5_right_12
  · have hs := ww_T hs hc1
    have hs := ww_S hs
    exact th_X5_4 hx hb hlocks hown hts hml hl.1 hout hst hW hs rfl dX5_right_4 dX5_right_7 dX5_right_8 dX5_right_11 (Nat.le_of_ble_eq_true rfl) (Nat.le_of_ble_eq_true rfl) rfl rfl
set_option maxHeartbeats 4000000 in
theorem c_X5_number (g : wg_T) (hgm : gm g = true) (l : Launch) (L : ly_T) (σ : st_T) (i0 : Nat) (a1 : Int32) (a2 : Int32) (hst : l.stackTraces = false) (o_ : Nat ⊕ Int32) (σ_ : st_T) (hs : m_X5_number σ i0 a1 a2 = some (o_, σ_)) : XI g l yX5_number (ws_ yX5_number cX5_number 6 (some .int)) 9 161 (xc o_) (xs o_) [.ref (L 87 i0), .int a1, .int a2] L σ o_ σ_ := by
  refine xbody.met (by decide) (Nat.le_of_ble_eq_true rfl) ?_
  intro p e s m args below meth c ls hx hb hr hml hlocks hts hown hnm hout hW hl
  have hown : s.vm.findClass RX5 = some m.cls := hown
  have hl : lv_has ls 6 [(0, .ref (L 87 i0)), (1, .int a1), (2, .int a2)] := hl
  unfold m_X5_number at hs
  have hL16 : ∀ (n16 : Nat), ∀ (σ : st_T) (x1 : Int32) (x2 : Int32) (x3 : Int32) (x4 : Int32) (x5 : Int32) (H : Heap) (locs : List Loc) (ls : Array Slot), wv g L σ s H locs → lv_has ls 6 [(0, .ref (L 87 i0)), (1, .int x1), (2, .int x2), (3, .int x3), (4, .int x4), (5, .int x5)] → (m_X5_number_L16 i0 n16) σ x1 x2 x3 x4 x5 = some (o_, σ_) → W p l e (wrm 9 161 (xc o_) (xs o_)) s m args below meth c H locs 0 0 (vx_MQ below (wXi g L o_ σ_) (wX g o_ σ_ L) args s (xc o_) (xs o_) (fun q => gz g ≤ q)) (F0 m 16 ls []) := by
    intro n16
    induction n16 with
    | zero => intro σ x1 x2 x3 x4 x5 H locs ls hW hl hs; rw [m_X5_number_L16] at hs; cases hs
    | succ n16 ih16 =>
      have hL99 : ∀ (σ : st_T) (x1 : Int32) (x2 : Int32) (x3 : Int32) (x4 : Int32) (x5 : Int32) (H : Heap) (locs : List Loc) (ls : Array Slot), wv g L σ s H locs → lv_has ls 6 [(0, .ref (L 87 i0)), (1, .int x1), (2, .int x2), (3, .int x3), (4, .int x4), (5, .int x5)] → (m_X5_number_L99 i0) σ x1 x2 x3 x4 x5 = some (o_, σ_) → W p l e (wrm 9 161 (xc o_) (xs o_)) s m args below meth c H locs 0 0 (vx_MQ below (wXi g L o_ σ_) (wX g o_ σ_ L) args s (xc o_) (xs o_) (fun q => gz g ≤ q)) (F0 m 99 ls []) := by
        have hL121 : ∀ (σ : st_T) (x1 : Int32) (x2 : Int32) (x4 : Int32) (x5 : Int32) (H : Heap) (locs : List Loc) (ls : Array Slot), wv g L σ s H locs → lv_has ls 6 [(0, .ref (L 87 i0)), (1, .int x1), (2, .int x2), (4, .int x4), (5, .int x5)] → (m_X5_number_L121 i0) σ x1 x2 x4 x5 = some (o_, σ_) → W p l e (wrm 9 161 (xc o_) (xs o_)) s m args below meth c H locs 0 0 (vx_MQ below (wXi g L o_ σ_) (wX g o_ σ_ L) args s (xc o_) (xs o_) (fun q => gz g ≤ q)) (F0 m 121 ls []) := by
          have hL144 : ∀ (σ : st_T) (x4 : Int32) (t1 : Int32) (H : Heap) (locs : List Loc) (ls : Array Slot), wv g L σ s H locs → lv_has ls 6 [(4, .int x4)] → (m_X5_number_L144 i0) σ x4 t1 = some (o_, σ_) → W p l e (wrm 9 161 (xc o_) (xs o_)) s m args below meth c H locs 0 0 (vx_MQ below (wXi g L o_ σ_) (wX g o_ σ_ L) args s (xc o_) (xs o_) (fun q => gz g ≤ q)) (F0 m 144 ls [.int t1, .ref (L 87 i0)]) := by
            intro σ x4 t1 H locs ls hW hl hs
            unfold m_X5_number_L144 at hs
            obtain ⟨o3, hc1, hs⟩ := ww_bnd hs
            obtain ⟨hc6, hs⟩ := ww_chk hs
            rcases o3 with k4 | v5
            · have hs := ww_sL hs
              have hs := ww_S hs
              have e1 : o_ = .inl k4 := congrArg Prod.fst hs
              have e2 : σ_ = σ := congrArg Prod.snd hs
              subst e1
              exact wx_prop (vx_runV (As := [.int t1]) (rest := []) ⟨hx, hb, hml, hown, hts⟩ (c_X5_right g hgm l L σ i0 t1 hst _ hc1) (cwV 1 hts (lw_V q962 q964 qs16 q118 q965) rfl rfl rfl hd_X5_right ⟨(Nat.le_of_ble_eq_true rfl), (Nat.le_of_ble_eq_true rfl)⟩) (ww_preV hW (pr_dy hc6 rfl rfl) (obv_0 rfl) rfl) rfl rfl hl.1 rfl (lv_room (Nat.le_of_ble_eq_true rfl)) dX5_number_144 ⟨Nat.le_of_ble_eq_true rfl, Nat.le_of_ble_eq_true rfl⟩) no_v hW hlocks hout rfl e2 (Nat.le_of_ble_eq_true rfl) (Nat.le_of_ble_eq_true rfl)
            · have hs := ww_sR hs
              refine ww_xv0 (vx_runV (As := [.int t1]) (rest := []) ⟨hx, hb, hml, hown, hts⟩ (c_X5_right g hgm l L σ i0 t1 hst _ hc1) (cwV 1 hts (lw_V q962 q964 qs16 q118 q965) rfl rfl rfl hd_X5_right ⟨(Nat.le_of_ble_eq_true rfl), (Nat.le_of_ble_eq_true rfl)⟩) (ww_preV hW (pr_dy hc6 rfl rfl) (obv_0 rfl) rfl) rfl rfl hl.1 rfl (lv_room (Nat.le_of_ble_eq_true rfl)) dX5_number_144 ⟨Nat.zero_le _, Nat.zero_le _⟩) hW (fun H locs hW => ?_)
              refine lv_iload hx hb dX5_number_147 (lv_at hl 0 rfl) ?_
              have hs := ww_S hs
              exact wx_i hx hb hr hlocks hW (congrArg Prod.fst hs) (congrArg Prod.snd hs) (Nat.zero_le _) (Nat.zero_le _) dX5_number_149
          have hL143 : ∀ (σ : st_T) (x4 : Int32) (H : Heap) (locs : List Loc) (ls : Array Slot), wv g L σ s H locs → lv_has ls 6 [(4, .int x4)] → (m_X5_number_L143 i0 (m_X5_number_L144 i0)) σ x4 = some (o_, σ_) → W p l e (wrm 9 161 (xc o_) (xs o_)) s m args below meth c H locs 0 0 (vx_MQ below (wXi g L o_ σ_) (wX g o_ σ_ L) args s (xc o_) (xs o_) (fun q => gz g ≤ q)) (F0 m 143 ls [.ref (L 87 i0)]) := by
            intro σ x4 H locs ls hW hl hs
            unfold m_X5_number_L143 at hs
            refine lv_iconst (v := 0) hx hb dX5_number_143 (by decide) ?_
            exact hL144 σ x4 (0 : Int32) _ _ ls hW (lv_sub hl [0] rfl) hs
          intro σ x1 x2 x4 x5 H locs ls hW hl hs
          unfold m_X5_number_L121 at hs
          refine lv_aload_n hx hb dX5_number_121 rfl (lv_at hl 0 rfl) ?_
          refine lv_iload hx hb dX5_number_122 (lv_at hl 4 rfl) ?_
          refine lv_if_le (tgt := 143) hx hb dX5_number_124 (by decide) (fun hc7 => ?_) (fun hc7 => ?_)
          · have hs := ww_T hs hc7
            exact hL143 σ x4 _ _ ls hW (lv_sub hl [3] rfl) hs
          · have hs := ww_F hs hc7
            refine lv_iload hx hb dX5_number_127 (lv_at hl 3 rfl) ?_
            refine lv_iload_n hx hb dX5_number_129 rfl (lv_at hl 1 rfl) ?_
            refine lv_icmp_lt (tgt := 143) hx hb dX5_number_130 (by decide) (fun hc8 => ?_) (fun hc8 => ?_)
            · have hs := ww_T hs hc8
              exact hL143 σ x4 _ _ ls hW (lv_sub hl [3] rfl) hs
            · have hs := ww_F hs hc8
              refine lv_iload hx hb dX5_number_133 (lv_at hl 3 rfl) ?_
              refine lv_iload_n hx hb dX5_number_135 rfl (lv_at hl 2 rfl) ?_
              refine lv_icmp_gt (tgt := 143) hx hb dX5_number_136 (by decide) (fun hc9 => ?_) (fun hc9 => ?_)
              · have hs := ww_T hs hc9
                exact hL143 σ x4 _ _ ls hW (lv_sub hl [3] rfl) hs
              · have hs := ww_F hs hc9
                refine lv_iconst (v := 1) hx hb dX5_number_139 (by decide) ?_
                refine lv_goto (tgt := 144) hx hb dX5_number_140 (by decide) ?_
                exact hL144 σ x4 (1 : Int32) _ _ ls hW (lv_sub hl [3] rfl) hs
        have hL116 : ∀ (σ : st_T) (x1 : Int32) (x2 : Int32) (x3 : Int32) (x4 : Int32) (x5 : Int32) (H : Heap) (locs : List Loc) (ls : Array Slot), wv g L σ s H locs → lv_has ls 6 [(0, .ref (L 87 i0)), (1, .int x1), (2, .int x2), (3, .int x3), (4, .int x4), (5, .int x5)] → (m_X5_number_L116 i0 (m_X5_number_L121 i0)) σ x1 x2 x3 x4 x5 = some (o_, σ_) → W p l e (wrm 9 161 (xc o_) (xs o_)) s m args below meth c H locs 0 0 (vx_MQ below (wXi g L o_ σ_) (wX g o_ σ_ L) args s (xc o_) (xs o_) (fun q => gz g ≤ q)) (F0 m 116 ls []) := by
          intro σ x1 x2 x3 x4 x5 H locs ls hW hl hs
          unfold m_X5_number_L116 at hs
          refine lv_aload_n hx hb dX5_number_116 rfl (lv_at hl 0 rfl) ?_
          refine lv_iload_n hx hb dX5_number_117 rfl (lv_at hl 3 rfl) ?_
          obtain ⟨hc10, hs⟩ := ww_chk hs
          obtain ⟨σ11, e12, hs⟩ := ww_let hs
          refine pf_X5_111 hx hb hts hown hW (pr_dy hc10 rfl rfl) dX5_number_118 (fun H locs hW => ?_)
          have hW : wv g L σ11 s H locs := by rw [e12]; exact hW
          have hc13 : i0 < gN_ σ11 87 := by rw [e12]; exact hc10
          exact hL121 σ11 x1 x2 x4 x5 _ _ ls hW (lv_sub hl [0, 1, 2, 4, 5] rfl) hs
        intro σ x1 x2 x3 x4 x5 H locs ls hW hl hs
        unfold m_X5_number_L99 at hs
        refine lv_iload hx hb dX5_number_99 (lv_at hl 5 rfl) ?_
        refine lv_if_eq (tgt := 116) hx hb dX5_number_101 (by decide) (fun hc14 => ?_) (fun hc14 => ?_)
        · have hs := ww_T hs hc14
          exact hL116 σ x1 x2 x3 x4 x5 _ _ ls hW (lv_sub hl [0, 1, 2, 3, 4, 5] rfl) hs
        · have hs := ww_F hs hc14
          refine lv_iload hx hb dX5_number_104 (lv_at hl 4 rfl) ?_
          refine lv_iload_n hx hb dX5_number_106 rfl (lv_at hl 1 rfl) ?_
          refine lv_icmp_lt (tgt := 116) hx hb dX5_number_107 (by decide) (fun hc15 => ?_) (fun hc15 => ?_)
          · have hs := ww_T hs hc15
            exact hL116 σ x1 x2 x3 x4 x5 _ _ ls hW (lv_sub hl [0, 1, 2, 3, 4, 5] rfl) hs
          · have hs := ww_F hs hc15
            refine lv_iload hx hb dX5_number_110 (lv_at hl 4 rfl) ?_
            refine lv_iload_n hx hb dX5_number_112 rfl (lv_at hl 2 rfl) ?_
            refine lv_icmp_le (tgt := 121) hx hb dX5_number_113 (by decide) (fun hc16 => ?_) (fun hc16 => ?_)
            · have hs := ww_T hs hc16
              exact hL121 σ x1 x2 x4 x5 _ _ ls hW (lv_sub hl [0, 1, 2, 4, 5] rfl) hs
            · have hs := ww_F hs hc16
              exact hL116 σ x1 x2 x3 x4 x5 _ _ ls hW (lv_sub hl [0, 1, 2, 3, 4, 5] rfl) hs
      have hL57 : ∀ (σ : st_T) (x1 : Int32) (x2 : Int32) (x3 : Int32) (x4 : Int32) (x5 : Int32) (t1 : Int32) (H : Heap) (locs : List Loc) (ls : Array Slot), wv g L σ s H locs → lv_has ls 6 [(0, .ref (L 87 i0)), (1, .int x1), (2, .int x2), (3, .int x3), (4, .int x4), (5, .int x5)] → (m_X5_number_L57 i0 (m_X5_number_L16 i0 n16)) σ x1 x2 x3 x4 x5 t1 = some (o_, σ_) → W p l e (wrm 9 161 (xc o_) (xs o_)) s m args below meth c H locs 0 0 (vx_MQ below (wXi g L o_ σ_) (wX g o_ σ_ L) args s (xc o_) (xs o_) (fun q => gz g ≤ q)) (F0 m 57 ls [.int t1, .ref (L 87 i0)]) := by
        intro σ x1 x2 x3 x4 x5 t1 H locs ls hW hl hs
        unfold m_X5_number_L57 at hs
        obtain ⟨o19, hc17, hs⟩ := ww_bnd hs
        obtain ⟨hc22, hs⟩ := ww_chk hs
        rcases o19 with k20 | v21
        · have hs := ww_sL hs
          have hs := ww_S hs
          have e1 : o_ = .inl k20 := congrArg Prod.fst hs
          have e2 : σ_ = σ := congrArg Prod.snd hs
          subst e1
          exact wx_prop (vx_runV (As := [.int t1]) (rest := []) ⟨hx, hb, hml, hown, hts⟩ (c_X5_right g hgm l L σ i0 t1 hst _ hc17) (cwV 1 hts (lw_V q962 q964 qs16 q118 q965) rfl rfl rfl hd_X5_right ⟨(Nat.le_of_ble_eq_true rfl), (Nat.le_of_ble_eq_true rfl)⟩) (ww_preV hW (pr_dy hc22 rfl rfl) (obv_0 rfl) rfl) rfl rfl hl.1 rfl (lv_room (Nat.le_of_ble_eq_true rfl)) dX5_number_57 ⟨Nat.le_of_ble_eq_true rfl, Nat.le_of_ble_eq_true rfl⟩) no_v hW hlocks hout rfl e2 (Nat.le_of_ble_eq_true rfl) (Nat.le_of_ble_eq_true rfl)
        · have hs := ww_sR hs
          refine ww_xv0 (vx_runV (As := [.int t1]) (rest := []) ⟨hx, hb, hml, hown, hts⟩ (c_X5_right g hgm l L σ i0 t1 hst _ hc17) (cwV 1 hts (lw_V q962 q964 qs16 q118 q965) rfl rfl rfl hd_X5_right ⟨(Nat.le_of_ble_eq_true rfl), (Nat.le_of_ble_eq_true rfl)⟩) (ww_preV hW (pr_dy hc22 rfl rfl) (obv_0 rfl) rfl) rfl rfl hl.1 rfl (lv_room (Nat.le_of_ble_eq_true rfl)) dX5_number_57 ⟨Nat.zero_le _, Nat.zero_le _⟩) hW (fun H locs hW => ?_)
          refine lv_bipush (v := 10) hx hb dX5_number_60 (by decide) ?_
          refine lv_iload hx hb dX5_number_62 (lv_at hl 4 rfl) ?_
          refine lv_imul hx hb dX5_number_64 ?_
          refine lv_aload_n hx hb dX5_number_65 rfl (lv_at hl 0 rfl) ?_
          refine gf_X5_3 hx hb hts hown hW (pr_dy hc22 rfl rfl) (hW.fl hgm (pr_dy hc22 rfl rfl) 11 (by decide) rfl (by decide)) dX5_number_66 ?_
          refine gf_X5_148 hx hb hts hown hW (pr_st (hW.rd hgm) (Nat.le_of_ble_eq_true rfl)) (hW.fl hgm (pr_st (hW.rd hgm) (Nat.le_of_ble_eq_true rfl)) 0 (by decide) rfl (by decide)) dX5_number_69 ?_
          refine lv_aload_n hx hb dX5_number_72 rfl (lv_at hl 0 rfl) ?_
          refine gf_X5_111 hx hb hts hown hW (pr_dy hc22 rfl rfl) dX5_number_73 ?_
          obtain ⟨hc23, hs⟩ := ww_chk hs
          refine ww_bald hx hb hW 10 0 (pr_st (hW.rd hgm) (Nat.le_of_ble_eq_true rfl)) rfl hc23 dX5_number_76 ?_
          refine lv_iadd hx hb dX5_number_77 ?_
          refine lv_bipush (v := 48) hx hb dX5_number_78 (by decide) ?_
          refine lv_isub hx hb dX5_number_80 ?_
          refine lv_istore (lv' := [(4, .int ((((10 : Int32) * x4) + (gA_ σ 10 0 (gF_ σ 87 8 i0).toNatClampNeg)) - (48 : Int32))), (0, .ref (L 87 i0)), (1, .int x1), (2, .int x2), (3, .int x3), (5, .int x5)]) hx hb dX5_number_81 hl (by decide) rfl (fun ls hl => ?_)
          refine lv_aload_n hx hb dX5_number_83 rfl (lv_at hl 1 rfl) ?_
          refine lv_dup hx hb dX5_number_84 rfl ?_
          refine gf_X5_111 hx hb hts hown hW (pr_dy hc22 rfl rfl) dX5_number_85 ?_
          refine lv_iconst (v := 1) hx hb dX5_number_88 (by decide) ?_
          refine lv_iadd hx hb dX5_number_89 ?_
          obtain ⟨σ24, e25, hs⟩ := ww_let hs
          refine pf_X5_111 hx hb hts hown hW (pr_dy hc22 rfl rfl) dX5_number_90 (fun H locs hW => ?_)
          have hW : wv g L σ24 s H locs := by rw [e25]; exact hW
          have hc26 : i0 < gN_ σ24 87 := by rw [e25]; exact hc22
          refine lv_iinc (v := (x5 + (1 : Int32))) (lv' := [(5, .int (x5 + (1 : Int32))), (4, .int ((((10 : Int32) * x4) + (gA_ σ 10 0 (gF_ σ 87 8 i0).toNatClampNeg)) - (48 : Int32))), (0, .ref (L 87 i0)), (1, .int x1), (2, .int x2), (3, .int x3)]) hx hb dX5_number_93 hl (k := 5) rfl rfl (by decide) rfl (fun ls hl => ?_)
          refine lv_goto (tgt := 16) hx hb dX5_number_96 (by decide) ?_
          exact ih16 σ24 x1 x2 x3 ((((10 : Int32) * x4) + (gA_ σ 10 0 (gF_ σ 87 8 i0).toNatClampNeg)) - (48 : Int32)) (x5 + (1 : Int32)) _ _ ls hW (lv_sub hl [2, 3, 4, 5, 1, 0] rfl) hs
      intro σ x1 x2 x3 x4 x5 H locs ls hW hl hs
      rw [m_X5_number_L16] at hs
      refine lv_aload_n hx hb dX5_number_16 rfl (lv_at hl 0 rfl) ?_
      obtain ⟨hc27, hs⟩ := ww_chk hs
      refine gf_X5_111 hx hb hts hown hW (pr_dy hc27 rfl rfl) dX5_number_17 ?_
      refine lv_aload_n hx hb dX5_number_20 rfl (lv_at hl 0 rfl) ?_
      refine gf_X5_54 hx hb hts hown hW (pr_dy hc27 rfl rfl) dX5_number_21 ?_
      refine lv_icmp_ge (tgt := 99) hx hb dX5_number_24 (by decide) (fun hc28 => ?_) (fun hc28 => ?_)
      · have hs := ww_T hs hc28
        exact hL99 σ x1 x2 x3 x4 x5 _ _ ls hW (lv_sub hl [0, 1, 2, 3, 4, 5] rfl) hs
      · have hs := ww_F hs hc28
        refine lv_aload_n hx hb dX5_number_27 rfl (lv_at hl 0 rfl) ?_
        refine gf_X5_3 hx hb hts hown hW (pr_dy hc27 rfl rfl) (hW.fl hgm (pr_dy hc27 rfl rfl) 11 (by decide) rfl (by decide)) dX5_number_28 ?_
        refine gf_X5_148 hx hb hts hown hW (pr_st (hW.rd hgm) (Nat.le_of_ble_eq_true rfl)) (hW.fl hgm (pr_st (hW.rd hgm) (Nat.le_of_ble_eq_true rfl)) 0 (by decide) rfl (by decide)) dX5_number_31 ?_
        refine lv_aload_n hx hb dX5_number_34 rfl (lv_at hl 0 rfl) ?_
        refine gf_X5_111 hx hb hts hown hW (pr_dy hc27 rfl rfl) dX5_number_35 ?_
        obtain ⟨hc29, hs⟩ := ww_chk hs
        refine ww_bald hx hb hW 10 0 (pr_st (hW.rd hgm) (Nat.le_of_ble_eq_true rfl)) rfl hc29 dX5_number_38 ?_
        obtain ⟨v32, hc30, hs⟩ := ww_bnd hs
        refine ww_ci (va_runSN (As := [.int (gA_ σ 10 0 (gF_ σ 87 8 i0).toNatClampNeg)]) (rest := []) ⟨hx, hb, hml, hown, hts⟩ (c_X1_isDigit g hgm l L σ (gA_ σ 10 0 (gF_ σ 87 8 i0).toNatClampNeg) _ hc30) ⟨va_cnB 1 hts (lw_meth q1057) rfl rfl rfl (hW.nw 47 rfl) (hts _ q111) hd_X1_isDigit.2 ⟨(Nat.le_of_ble_eq_true rfl), (Nat.le_of_ble_eq_true rfl)⟩, hts _ q1056, trivial⟩ (ww_preS hW) rfl rfl hl.1 rfl (lv_room (Nat.le_of_ble_eq_true rfl)) dX5_number_39 ⟨Nat.le_of_ble_eq_true rfl, Nat.le_of_ble_eq_true rfl⟩) hW (fun H locs hW => ?_)
        refine lv_if_eq (tgt := 99) hx hb dX5_number_42 (by decide) (fun hc33 => ?_) (fun hc33 => ?_)
        · have hs := ww_T hs hc33
          exact hL99 σ x1 x2 x3 x4 x5 _ _ ls hW (lv_sub hl [0, 1, 2, 3, 4, 5] rfl) hs
        · have hs := ww_F hs hc33
          refine lv_aload_n hx hb dX5_number_45 rfl (lv_at hl 0 rfl) ?_
          refine lv_iload hx hb dX5_number_46 (lv_at hl 5 rfl) ?_
          refine lv_iconst (v := 3) hx hb dX5_number_48 (by decide) ?_
          refine lv_icmp_ge (tgt := 56) hx hb dX5_number_49 (by decide) (fun hc34 => ?_) (fun hc34 => ?_)
          · have hs := ww_T hs hc34
            refine lv_iconst (v := 0) hx hb dX5_number_56 (by decide) ?_
            exact hL57 σ x1 x2 x3 x4 x5 (0 : Int32) _ _ ls hW (lv_sub hl [0, 1, 2, 3, 4, 5] rfl) hs
          · have hs := ww_F hs hc34
            refine lv_iconst (v := 1) hx hb dX5_number_52 (by decide) ?_
            refine lv_goto (tgt := 57) hx hb dX5_number_53 (by decide) ?_
            exact hL57 σ x1 x2 x3 x4 x5 (1 : Int32) _ _ ls hW (lv_sub hl [0, 1, 2, 3, 4, 5] rfl) hs
  refine lv_aload_n hx hb dX5_number_0 rfl (lv_at hl 0 rfl) ?_
  obtain ⟨v37, σ38, hc35, hs⟩ := ww_bn2 hs
  obtain ⟨hc39, hs⟩ := ww_chk hs
  refine ww_ci (va_runV (As := []) (rest := []) ⟨hx, hb, hml, hown, hts⟩ (c_X5_now g hgm l L σ i0 _ _ hc35) (cwV 0 hts (lw_V q958 q960 qs15 q118 q961) rfl rfl rfl hd_X5_now ⟨(Nat.le_of_ble_eq_true rfl), (Nat.le_of_ble_eq_true rfl)⟩) (ww_preV hW (pr_dy hc39 rfl rfl) (obv_0 rfl) rfl) rfl rfl hl.1 rfl (lv_room (Nat.le_of_ble_eq_true rfl)) dX5_number_1 ⟨Nat.le_of_ble_eq_true rfl, Nat.le_of_ble_eq_true rfl⟩) hW (fun H locs hW => ?_)
  refine lv_pop hx hb dX5_number_4 rfl ?_
  refine lv_aload_n hx hb dX5_number_5 rfl (lv_at hl 0 rfl) ?_
  obtain ⟨hc40, hs⟩ := ww_chk hs
  refine gf_X5_111 hx hb hts hown hW (pr_dy hc40 rfl rfl) dX5_number_6 ?_
  refine lv_istore_n (lv' := [(3, .int (gF_ σ38 87 8 i0)), (0, .ref (L 87 i0)), (1, .int a1), (2, .int a2)]) hx hb dX5_number_9 rfl hl (by decide) rfl (fun ls hl => ?_)
  refine lv_iconst (v := 0) hx hb dX5_number_10 (by decide) ?_
  refine lv_istore (lv' := [(4, .int (0 : Int32)), (3, .int (gF_ σ38 87 8 i0)), (0, .ref (L 87 i0)), (1, .int a1), (2, .int a2)]) hx hb dX5_number_11 hl (by decide) rfl (fun ls hl => ?_)
  refine lv_iconst (v := 0) hx hb dX5_number_13 (by decide) ?_
  refine lv_istore (lv' := [(5, .int (0 : Int32)), (4, .int (0 : Int32)), (3, .int (gF_ σ38 87 8 i0)), (0, .ref (L 87 i0)), (1, .int a1), (2, .int a2)]) hx hb dX5_number_14 hl (by decide) rfl (fun ls hl => ?_)
  exact hL16 fu_ σ38 a1 a2 (gF_ σ38 87 8 i0) (0 : Int32) (0 : Int32) _ _ ls hW (lv_sub hl [3, 4, 5, 2, 1, 0] rfl) hs
set_option maxHeartbeats 4000000 in
theorem c_X5_sign (g : wg_T) (hgm : gm g = true) (l : Launch) (L : ly_T) (σ : st_T) (i0 : Nat) (a1 : Int32) (hst : l.stackTraces = false) (o_ : Nat ⊕ Unit) (σ_ : st_T) (hs : m_X5_sign σ i0 a1 = some (o_, σ_)) : XV g l yX5_sign (ws_ yX5_sign cX5_sign 2 none) 9 161 (xc o_) (xs o_) [.ref (L 87 i0), .int a1] L σ o_ σ_ := by
  refine xbody.met (by decide) (Nat.le_of_ble_eq_true rfl) ?_
  intro p e s m args below meth c ls hx hb hr hml hlocks hts hown hnm hout hW hl
  have hown : s.vm.findClass RX5 = some m.cls := hown
  have hl : lv_has ls 2 [(0, .ref (L 87 i0)), (1, .int a1)] := hl
  unfold m_X5_sign at hs
  have hL14 : ∀ (σ : st_T) (t1 : Int32) (H : Heap) (locs : List Loc) (ls : Array Slot), wv g L σ s H locs → lv_has ls 2 [(0, .ref (L 87 i0))] → (m_X5_sign_L14 i0) σ t1 = some (o_, σ_) → W p l e (wrm 9 161 (xc o_) (xs o_)) s m args below meth c H locs 0 0 (vx_MQ below (wXv g L o_ σ_) (wX g o_ σ_ L) args s (xc o_) (xs o_) (fun q => gz g ≤ q)) (F0 m 14 ls [.int t1, .ref (L 87 i0)]) := by
    intro σ t1 H locs ls hW hl hs
    unfold m_X5_sign_L14 at hs
    obtain ⟨o3, hc1, hs⟩ := ww_bnd hs
    obtain ⟨hc6, hs⟩ := ww_chk hs
    rcases o3 with k4 | v5
    · have hs := ww_sL hs
      have hs := ww_S hs
      have e1 : o_ = .inl k4 := congrArg Prod.fst hs
      have e2 : σ_ = σ := congrArg Prod.snd hs
      subst e1
      exact wx_prop (vx_runV (As := [.int t1]) (rest := []) ⟨hx, hb, hml, hown, hts⟩ (c_X5_right g hgm l L σ i0 t1 hst _ hc1) (cwV 1 hts (lw_V q962 q964 qs16 q118 q965) rfl rfl rfl hd_X5_right ⟨(Nat.le_of_ble_eq_true rfl), (Nat.le_of_ble_eq_true rfl)⟩) (ww_preV hW (pr_dy hc6 rfl rfl) (obv_0 rfl) rfl) rfl rfl hl.1 rfl (lv_room (Nat.le_of_ble_eq_true rfl)) dX5_sign_14 ⟨Nat.le_of_ble_eq_true rfl, Nat.le_of_ble_eq_true rfl⟩) no_v hW hlocks hout rfl e2 (Nat.le_of_ble_eq_true rfl) (Nat.le_of_ble_eq_true rfl)
    · have hs := ww_sR hs
      refine ww_xv0 (vx_runV (As := [.int t1]) (rest := []) ⟨hx, hb, hml, hown, hts⟩ (c_X5_right g hgm l L σ i0 t1 hst _ hc1) (cwV 1 hts (lw_V q962 q964 qs16 q118 q965) rfl rfl rfl hd_X5_right ⟨(Nat.le_of_ble_eq_true rfl), (Nat.le_of_ble_eq_true rfl)⟩) (ww_preV hW (pr_dy hc6 rfl rfl) (obv_0 rfl) rfl) rfl rfl hl.1 rfl (lv_room (Nat.le_of_ble_eq_true rfl)) dX5_sign_14 ⟨Nat.zero_le _, Nat.zero_le _⟩) hW (fun H locs hW => ?_)
      refine lv_aload_n hx hb dX5_sign_17 rfl (lv_at hl 0 rfl) ?_
      refine lv_dup hx hb dX5_sign_18 rfl ?_
      refine gf_X5_111 hx hb hts hown hW (pr_dy hc6 rfl rfl) dX5_sign_19 ?_
      refine lv_iconst (v := 1) hx hb dX5_sign_22 (by decide) ?_
      refine lv_iadd hx hb dX5_sign_23 ?_
      obtain ⟨σ7, e8, hs⟩ := ww_let hs
      refine pf_X5_111 hx hb hts hown hW (pr_dy hc6 rfl rfl) dX5_sign_24 (fun H locs hW => ?_)
      have hW : wv g L σ7 s H locs := by rw [e8]; exact hW
      have hc9 : i0 < gN_ σ7 87 := by rw [e8]; exact hc6
      have hs := ww_S hs
      exact wx_v hx hb hr hlocks hW (congrArg Prod.fst hs) (congrArg Prod.snd hs) (Nat.zero_le _) (Nat.zero_le _) dX5_sign_27
  refine lv_aload_n hx hb dX5_sign_0 rfl (lv_at hl 0 rfl) ?_
  refine lv_aload_n hx hb dX5_sign_1 rfl (lv_at hl 0 rfl) ?_
  obtain ⟨v12, σ13, hc10, hs⟩ := ww_bn2 hs
  obtain ⟨hc14, hs⟩ := ww_chk hs
  refine ww_ci (va_runV (As := []) (rest := [.ref (L 87 i0)]) ⟨hx, hb, hml, hown, hts⟩ (c_X5_now g hgm l L σ i0 _ _ hc10) (cwV 0 hts (lw_V q958 q960 qs15 q118 q961) rfl rfl rfl hd_X5_now ⟨(Nat.le_of_ble_eq_true rfl), (Nat.le_of_ble_eq_true rfl)⟩) (ww_preV hW (pr_dy hc14 rfl rfl) (obv_0 rfl) rfl) rfl rfl hl.1 rfl (lv_room (Nat.le_of_ble_eq_true rfl)) dX5_sign_2 ⟨Nat.le_of_ble_eq_true rfl, Nat.le_of_ble_eq_true rfl⟩) hW (fun H locs hW => ?_)
  refine lv_iload_n hx hb dX5_sign_5 rfl (lv_at hl 1 rfl) ?_
  refine lv_icmp_ne (tgt := 13) hx hb dX5_sign_6 (by decide) (fun hc15 => ?_) (fun hc15 => ?_)
  · have hs := ww_F hs hc15
    refine lv_iconst (v := 0) hx hb dX5_sign_13 (by decide) ?_
    exact hL14 σ13 (0 : Int32) _ _ ls hW (lv_sub hl [0] rfl) hs
  · have hs := ww_T hs hc15
    refine lv_iconst (v := 1) hx hb dX5_sign_9 (by decide) ?_
    refine lv_goto (tgt := 14) hx hb dX5_sign_10 (by decide) ?_
    exact hL14 σ13 (1 : Int32) _ _ ls hW (lv_sub hl [0] rfl) hs
set_option maxHeartbeats 4000000 in
theorem c_X5_likes (g : wg_T) (hgm : gm g = true) (l : Launch) (L : ly_T) (σ : st_T) (i0 : Nat) (hst : l.stackTraces = false) (o_ : Nat ⊕ Unit) (σ_ : st_T) (hs : m_X5_likes σ i0 = some (o_, σ_)) : XV g l yX5_likes (ws_ yX5_likes cX5_likes 2 none) 11 293 (xc o_) (xs o_) [.ref (L 87 i0)] L σ o_ σ_ := by
  refine xbody.met (by decide) (Nat.le_of_ble_eq_true rfl) ?_
  intro p e s m args below meth c ls hx hb hr hml hlocks hts hown hnm hout hW hl
  have hown : s.vm.findClass RX5 = some m.cls := hown
  have hl : lv_has ls 2 [(0, .ref (L 87 i0))] := hl
  unfold m_X5_likes at hs
  have hL2 : ∀ (n2 : Nat), ∀ (σ : st_T) (x1 : Int32) (H : Heap) (locs : List Loc) (ls : Array Slot), wv g L σ s H locs → lv_has ls 2 [(0, .ref (L 87 i0)), (1, .int x1)] → (m_X5_likes_L2 i0 n2) σ x1 = some (o_, σ_) → W p l e (wrm 11 293 (xc o_) (xs o_)) s m args below meth c H locs 0 0 (vx_MQ below (wXv g L o_ σ_) (wX g o_ σ_ L) args s (xc o_) (xs o_) (fun q => gz g ≤ q)) (F0 m 2 ls []) := by
    intro n2
    induction n2 with
    | zero => intro σ x1 H locs ls hW hl hs; rw [m_X5_likes_L2] at hs; cases hs
    | succ n2 ih2 =>
      have hL24 : ∀ (σ : st_T) (x1 : Int32) (H : Heap) (locs : List Loc) (ls : Array Slot), wv g L σ s H locs → lv_has ls 2 [(0, .ref (L 87 i0)), (1, .int x1)] → (m_X5_likes_L24 i0) σ x1 = some (o_, σ_) → W p l e (wrm 11 293 (xc o_) (xs o_)) s m args below meth c H locs 0 0 (vx_MQ below (wXv g L o_ σ_) (wX g o_ σ_ L) args s (xc o_) (xs o_) (fun q => gz g ≤ q)) (F0 m 24 ls []) := by
        have hL35 : ∀ (σ : st_T) (x1 : Int32) (t1 : Int32) (H : Heap) (locs : List Loc) (ls : Array Slot), wv g L σ s H locs → lv_has ls 2 [(0, .ref (L 87 i0)), (1, .int x1)] → (m_X5_likes_L35 i0) σ x1 t1 = some (o_, σ_) → W p l e (wrm 11 293 (xc o_) (xs o_)) s m args below meth c H locs 0 0 (vx_MQ below (wXv g L o_ σ_) (wX g o_ σ_ L) args s (xc o_) (xs o_) (fun q => gz g ≤ q)) (F0 m 35 ls [.int t1, .ref (L 87 i0)]) := by
          have hL45 : ∀ (n45 : Nat), ∀ (σ : st_T) (x1 : Int32) (H : Heap) (locs : List Loc) (ls : Array Slot), wv g L σ s H locs → lv_has ls 2 [(0, .ref (L 87 i0)), (1, .int x1)] → (m_X5_likes_L45 i0 n45) σ x1 = some (o_, σ_) → W p l e (wrm 11 293 (xc o_) (xs o_)) s m args below meth c H locs 0 0 (vx_MQ below (wXv g L o_ σ_) (wX g o_ σ_ L) args s (xc o_) (xs o_) (fun q => gz g ≤ q)) (F0 m 45 ls []) := by
            intro n45
            induction n45 with
            | zero => intro σ x1 H locs ls hW hl hs; rw [m_X5_likes_L45] at hs; cases hs
            | succ n45 ih45 =>
              have hL62 : ∀ (σ : st_T) (x1 : Int32) (t1 : Int32) (H : Heap) (locs : List Loc) (ls : Array Slot), wv g L σ s H locs → lv_has ls 2 [(0, .ref (L 87 i0)), (1, .int x1)] → (m_X5_likes_L62 i0 (m_X5_likes_L45 i0 n45)) σ x1 t1 = some (o_, σ_) → W p l e (wrm 11 293 (xc o_) (xs o_)) s m args below meth c H locs 0 0 (vx_MQ below (wXv g L o_ σ_) (wX g o_ σ_ L) args s (xc o_) (xs o_) (fun q => gz g ≤ q)) (F0 m 62 ls [.int t1, .ref (L 87 i0)]) := by
                intro σ x1 t1 H locs ls hW hl hs
                unfold m_X5_likes_L62 at hs
                obtain ⟨o3, hc1, hs⟩ := ww_bnd hs
                obtain ⟨hc6, hs⟩ := ww_chk hs
                rcases o3 with k4 | v5
                · have hs := ww_sL hs
                  have hs := ww_S hs
                  have e1 : o_ = .inl k4 := congrArg Prod.fst hs
                  have e2 : σ_ = σ := congrArg Prod.snd hs
                  subst e1
                  exact wx_prop (vx_runV (As := [.int t1]) (rest := []) ⟨hx, hb, hml, hown, hts⟩ (c_X5_right g hgm l L σ i0 t1 hst _ hc1) (cwV 1 hts (lw_V q962 q964 qs16 q118 q965) rfl rfl rfl hd_X5_right ⟨(Nat.le_of_ble_eq_true rfl), (Nat.le_of_ble_eq_true rfl)⟩) (ww_preV hW (pr_dy hc6 rfl rfl) (obv_0 rfl) rfl) rfl rfl hl.1 rfl (lv_room (Nat.le_of_ble_eq_true rfl)) dX5_likes_62 ⟨Nat.le_of_ble_eq_true rfl, Nat.le_of_ble_eq_true rfl⟩) no_v hW hlocks hout rfl e2 (Nat.le_of_ble_eq_true rfl) (Nat.le_of_ble_eq_true rfl)
                · have hs := ww_sR hs
                  refine ww_xv0 (vx_runV (As := [.int t1]) (rest := []) ⟨hx, hb, hml, hown, hts⟩ (c_X5_right g hgm l L σ i0 t1 hst _ hc1) (cwV 1 hts (lw_V q962 q964 qs16 q118 q965) rfl rfl rfl hd_X5_right ⟨(Nat.le_of_ble_eq_true rfl), (Nat.le_of_ble_eq_true rfl)⟩) (ww_preV hW (pr_dy hc6 rfl rfl) (obv_0 rfl) rfl) rfl rfl hl.1 rfl (lv_room (Nat.le_of_ble_eq_true rfl)) dX5_likes_62 ⟨Nat.zero_le _, Nat.zero_le _⟩) hW (fun H locs hW => ?_)
                  refine lv_aload_n hx hb dX5_likes_65 rfl (lv_at hl 0 rfl) ?_
                  refine gf_X5_17 hx hb hts hown hW (pr_dy hc6 rfl rfl) (hW.fl hgm (pr_dy hc6 rfl rfl) 1 (by decide) rfl (by decide)) dX5_likes_66 ?_
                  refine lv_iload_n hx hb dX5_likes_69 rfl (lv_at hl 1 rfl) ?_
                  obtain ⟨hc7, hs⟩ := ww_chk hs
                  obtain ⟨hc8, hs⟩ := ww_chk hs
                  refine ww_aaldI hx hb hW 88 i0 (pr_dy hc7 rfl rfl) rfl hc8 dX5_likes_70 ?_
                  refine lv_aload_n hx hb dX5_likes_71 rfl (lv_at hl 0 rfl) ?_
                  refine gf_X5_20 hx hb hts hown hW (pr_dy hc6 rfl rfl) (hW.fl hgm (pr_dy hc6 rfl rfl) 2 (by decide) rfl (by decide)) dX5_likes_72 ?_
                  refine lv_iload_n hx hb dX5_likes_75 rfl (lv_at hl 1 rfl) ?_
                  obtain ⟨hc9, hs⟩ := ww_chk hs
                  refine ww_iald hx hb hW 90 i0 (pr_dy hc9 rfl rfl) rfl hc8 dX5_likes_76 ?_
                  refine lv_aload_n hx hb dX5_likes_77 rfl (lv_at hl 0 rfl) ?_
                  refine lv_iconst (v := 0) hx hb dX5_likes_78 (by decide) ?_
                  refine lv_bipush (v := 100) hx hb dX5_likes_79 (by decide) ?_
                  obtain ⟨o12, σ13, hc10, hs⟩ := ww_bn2 hs
                  rcases o12 with k14 | v15
                  · have hs := ww_sL hs
                    have hs := ww_S hs
                    have e1 : o_ = .inl k14 := congrArg Prod.fst hs
                    have e2 : σ_ = σ13 := congrArg Prod.snd hs
                    subst e1
                    exact wx_prop (vx_runV (As := [.int (0 : Int32), .int (100 : Int32)]) (rest := [.int (gA_ σ 90 i0 x1.toNatClampNeg), .ref (L 89 (4 * i0 + x1.toNatClampNeg))]) ⟨hx, hb, hml, hown, hts⟩ (c_X5_number g hgm l L σ i0 (0 : Int32) (100 : Int32) hst _ _ hc10) (cwV 2 hts (lw_V q1051 q1053 qs21 q118 q1054) rfl rfl rfl hd_X5_number ⟨(Nat.le_of_ble_eq_true rfl), (Nat.le_of_ble_eq_true rfl)⟩) (ww_preV hW (pr_dy hc6 rfl rfl) (obv_0 rfl) rfl) rfl rfl hl.1 rfl (lv_room (Nat.le_of_ble_eq_true rfl)) dX5_likes_81 ⟨Nat.le_of_ble_eq_true rfl, Nat.le_of_ble_eq_true rfl⟩) no_i hW hlocks hout rfl e2 (Nat.le_of_ble_eq_true rfl) (Nat.le_of_ble_eq_true rfl)
                  · have hs := ww_sR hs
                    refine ww_xi0 (vx_runV (As := [.int (0 : Int32), .int (100 : Int32)]) (rest := [.int (gA_ σ 90 i0 x1.toNatClampNeg), .ref (L 89 (4 * i0 + x1.toNatClampNeg))]) ⟨hx, hb, hml, hown, hts⟩ (c_X5_number g hgm l L σ i0 (0 : Int32) (100 : Int32) hst _ _ hc10) (cwV 2 hts (lw_V q1051 q1053 qs21 q118 q1054) rfl rfl rfl hd_X5_number ⟨(Nat.le_of_ble_eq_true rfl), (Nat.le_of_ble_eq_true rfl)⟩) (ww_preV hW (pr_dy hc6 rfl rfl) (obv_0 rfl) rfl) rfl rfl hl.1 rfl (lv_room (Nat.le_of_ble_eq_true rfl)) dX5_likes_81 ⟨Nat.zero_le _, Nat.zero_le _⟩) hW (fun H locs hW => ?_)
                    obtain ⟨hc16, hs⟩ := ww_chk hs
                    obtain ⟨hc17, hs⟩ := ww_chk hs
                    obtain ⟨σ18, e19, hs⟩ := ww_let hs
                    refine ww_iast hx hb hW 89 (4 * i0 + x1.toNatClampNeg) (pr_mul hc16 hc8 rfl rfl) rfl hc17 dX5_likes_84 (fun H locs hW => ?_)
                    have hW : wv g L σ18 s H locs := by rw [e19]; exact hW
                    have hc20 : i0 < gN_ σ18 88 := by rw [e19]; exact hc16
                    refine lv_aload_n hx hb dX5_likes_85 rfl (lv_at hl 0 rfl) ?_
                    obtain ⟨hc21, hs⟩ := ww_chk hs
                    refine gf_X5_20 hx hb hts hown hW (pr_dy hc21 rfl rfl) (hW.fl hgm (pr_dy hc21 rfl rfl) 2 (by decide) rfl (by decide)) dX5_likes_86 ?_
                    refine lv_iload_n hx hb dX5_likes_89 rfl (lv_at hl 1 rfl) ?_
                    refine lv_dup2_11 hx hb dX5_likes_90 rfl rfl ?_
                    obtain ⟨hc22, hs⟩ := ww_chk hs
                    refine ww_iald hx hb hW 90 i0 (pr_dy hc22 rfl rfl) rfl hc8 dX5_likes_91 ?_
                    refine lv_iconst (v := 1) hx hb dX5_likes_92 (by decide) ?_
                    refine lv_iadd hx hb dX5_likes_93 ?_
                    obtain ⟨σ23, e24, hs⟩ := ww_let hs
                    refine ww_iast hx hb hW 90 i0 (pr_dy hc22 rfl rfl) rfl hc8 dX5_likes_94 (fun H locs hW => ?_)
                    have hW : wv g L σ23 s H locs := by rw [e24]; exact hW
                    have hc25 : i0 < gN_ σ23 88 := by rw [e24]; exact hc20
                    have hc26 : i0 < gN_ σ23 87 := by rw [e24]; exact hc21
                    have hc27 : i0 < gN_ σ23 90 := by rw [e24]; exact hc22
                    refine lv_aload_n hx hb dX5_likes_95 rfl (lv_at hl 0 rfl) ?_
                    obtain ⟨v30, σ31, hc28, hs⟩ := ww_bn2 hs
                    refine ww_ci (va_runV (As := []) (rest := []) ⟨hx, hb, hml, hown, hts⟩ (c_X5_now g hgm l L σ23 i0 _ _ hc28) (cwV 0 hts (lw_V q958 q960 qs15 q118 q961) rfl rfl rfl hd_X5_now ⟨(Nat.le_of_ble_eq_true rfl), (Nat.le_of_ble_eq_true rfl)⟩) (ww_preV hW (pr_dy hc26 rfl rfl) (obv_0 rfl) rfl) rfl rfl hl.1 rfl (lv_room (Nat.le_of_ble_eq_true rfl)) dX5_likes_96 ⟨Nat.le_of_ble_eq_true rfl, Nat.le_of_ble_eq_true rfl⟩) hW (fun H locs hW => ?_)
                    obtain ⟨v34, hc32, hs⟩ := ww_bnd hs
                    refine ww_ci (va_runSN (As := [.int v30]) (rest := []) ⟨hx, hb, hml, hown, hts⟩ (c_X1_isDigit g hgm l L σ31 v30 _ hc32) ⟨va_cnB 1 hts (lw_meth q1057) rfl rfl rfl (hW.nw 47 rfl) (hts _ q111) hd_X1_isDigit.2 ⟨(Nat.le_of_ble_eq_true rfl), (Nat.le_of_ble_eq_true rfl)⟩, hts _ q1056, trivial⟩ (ww_preS hW) rfl rfl hl.1 rfl (lv_room (Nat.le_of_ble_eq_true rfl)) dX5_likes_99 ⟨Nat.le_of_ble_eq_true rfl, Nat.le_of_ble_eq_true rfl⟩) hW (fun H locs hW => ?_)
                    refine lv_if_ne (tgt := 45) hx hb dX5_likes_102 (by decide) (fun hc35 => ?_) (fun hc35 => ?_)
                    · have hs := ww_F hs hc35
                      exact ih45 σ31 x1 _ _ ls hW (lv_sub hl [0, 1] rfl) hs
                    · have hs := ww_T hs hc35
                      have hs := ww_S hs
                      exact wx_v hx hb hr hlocks hW (congrArg Prod.fst hs) (congrArg Prod.snd hs) (Nat.zero_le _) (Nat.zero_le _) dX5_likes_105
              intro σ x1 H locs ls hW hl hs
              rw [m_X5_likes_L45] at hs
              refine lv_aload_n hx hb dX5_likes_45 rfl (lv_at hl 0 rfl) ?_
              refine lv_aload_n hx hb dX5_likes_46 rfl (lv_at hl 0 rfl) ?_
              obtain ⟨hc36, hs⟩ := ww_chk hs
              refine gf_X5_20 hx hb hts hown hW (pr_dy hc36 rfl rfl) (hW.fl hgm (pr_dy hc36 rfl rfl) 2 (by decide) rfl (by decide)) dX5_likes_47 ?_
              refine lv_iload_n hx hb dX5_likes_50 rfl (lv_at hl 1 rfl) ?_
              obtain ⟨hc37, hs⟩ := ww_chk hs
              obtain ⟨hc38, hs⟩ := ww_chk hs
              refine ww_iald hx hb hW 90 i0 (pr_dy hc37 rfl rfl) rfl hc38 dX5_likes_51 ?_
              refine lv_bipush (v := 12) hx hb dX5_likes_52 (by decide) ?_
              refine lv_icmp_ge (tgt := 61) hx hb dX5_likes_54 (by decide) (fun hc39 => ?_) (fun hc39 => ?_)
              · have hs := ww_T hs hc39
                refine lv_iconst (v := 0) hx hb dX5_likes_61 (by decide) ?_
                exact hL62 σ x1 (0 : Int32) _ _ ls hW (lv_sub hl [0, 1] rfl) hs
              · have hs := ww_F hs hc39
                refine lv_iconst (v := 1) hx hb dX5_likes_57 (by decide) ?_
                refine lv_goto (tgt := 62) hx hb dX5_likes_58 (by decide) ?_
                exact hL62 σ x1 (1 : Int32) _ _ ls hW (lv_sub hl [0, 1] rfl) hs
          intro σ x1 t1 H locs ls hW hl hs
          unfold m_X5_likes_L35 at hs
          obtain ⟨o42, hc40, hs⟩ := ww_bnd hs
          obtain ⟨hc45, hs⟩ := ww_chk hs
          rcases o42 with k43 | v44
          · have hs := ww_sL hs
            have hs := ww_S hs
            have e1 : o_ = .inl k43 := congrArg Prod.fst hs
            have e2 : σ_ = σ := congrArg Prod.snd hs
            subst e1
            exact wx_prop (vx_runV (As := [.int t1]) (rest := []) ⟨hx, hb, hml, hown, hts⟩ (c_X5_right g hgm l L σ i0 t1 hst _ hc40) (cwV 1 hts (lw_V q962 q964 qs16 q118 q965) rfl rfl rfl hd_X5_right ⟨(Nat.le_of_ble_eq_true rfl), (Nat.le_of_ble_eq_true rfl)⟩) (ww_preV hW (pr_dy hc45 rfl rfl) (obv_0 rfl) rfl) rfl rfl hl.1 rfl (lv_room (Nat.le_of_ble_eq_true rfl)) dX5_likes_35 ⟨Nat.le_of_ble_eq_true rfl, Nat.le_of_ble_eq_true rfl⟩) no_v hW hlocks hout rfl e2 (Nat.le_of_ble_eq_true rfl) (Nat.le_of_ble_eq_true rfl)
          · have hs := ww_sR hs
            refine ww_xv0 (vx_runV (As := [.int t1]) (rest := []) ⟨hx, hb, hml, hown, hts⟩ (c_X5_right g hgm l L σ i0 t1 hst _ hc40) (cwV 1 hts (lw_V q962 q964 qs16 q118 q965) rfl rfl rfl hd_X5_right ⟨(Nat.le_of_ble_eq_true rfl), (Nat.le_of_ble_eq_true rfl)⟩) (ww_preV hW (pr_dy hc45 rfl rfl) (obv_0 rfl) rfl) rfl rfl hl.1 rfl (lv_room (Nat.le_of_ble_eq_true rfl)) dX5_likes_35 ⟨Nat.zero_le _, Nat.zero_le _⟩) hW (fun H locs hW => ?_)
            refine lv_aload_n hx hb dX5_likes_38 rfl (lv_at hl 0 rfl) ?_
            refine gf_X5_20 hx hb hts hown hW (pr_dy hc45 rfl rfl) (hW.fl hgm (pr_dy hc45 rfl rfl) 2 (by decide) rfl (by decide)) dX5_likes_39 ?_
            refine lv_iload_n hx hb dX5_likes_42 rfl (lv_at hl 1 rfl) ?_
            refine lv_iconst (v := 0) hx hb dX5_likes_43 (by decide) ?_
            obtain ⟨hc46, hs⟩ := ww_chk hs
            obtain ⟨hc47, hs⟩ := ww_chk hs
            obtain ⟨σ48, e49, hs⟩ := ww_let hs
            refine ww_iast hx hb hW 90 i0 (pr_dy hc46 rfl rfl) rfl hc47 dX5_likes_44 (fun H locs hW => ?_)
            have hW : wv g L σ48 s H locs := by rw [e49]; exact hW
            have hc50 : i0 < gN_ σ48 87 := by rw [e49]; exact hc45
            have hc51 : i0 < gN_ σ48 90 := by rw [e49]; exact hc46
            exact hL45 fu_ σ48 x1 _ _ ls hW (lv_sub hl [0, 1] rfl) hs
        intro σ x1 H locs ls hW hl hs
        unfold m_X5_likes_L24 at hs
        refine lv_aload_n hx hb dX5_likes_24 rfl (lv_at hl 0 rfl) ?_
        refine lv_iload_n hx hb dX5_likes_25 rfl (lv_at hl 1 rfl) ?_
        refine lv_iconst (v := 4) hx hb dX5_likes_26 (by decide) ?_
        refine lv_icmp_ge (tgt := 34) hx hb dX5_likes_27 (by decide) (fun hc52 => ?_) (fun hc52 => ?_)
        · have hs := ww_T hs hc52
          refine lv_iconst (v := 0) hx hb dX5_likes_34 (by decide) ?_
          exact hL35 σ x1 (0 : Int32) _ _ ls hW (lv_sub hl [0, 1] rfl) hs
        · have hs := ww_F hs hc52
          refine lv_iconst (v := 1) hx hb dX5_likes_30 (by decide) ?_
          refine lv_goto (tgt := 35) hx hb dX5_likes_31 (by decide) ?_
          exact hL35 σ x1 (1 : Int32) _ _ ls hW (lv_sub hl [0, 1] rfl) hs
      intro σ x1 H locs ls hW hl hs
      rw [m_X5_likes_L2] at hs
      refine lv_iload_n hx hb dX5_likes_2 rfl (lv_at hl 1 rfl) ?_
      refine lv_iconst (v := 4) hx hb dX5_likes_3 (by decide) ?_
      refine lv_icmp_ge (tgt := 24) hx hb dX5_likes_4 (by decide) (fun hc53 => ?_) (fun hc53 => ?_)
      · have hs := ww_T hs hc53
        exact hL24 σ x1 _ _ ls hW (lv_sub hl [0, 1] rfl) hs
      · have hs := ww_F hs hc53
        refine lv_aload_n hx hb dX5_likes_7 rfl (lv_at hl 0 rfl) ?_
        refine lv_iload_n hx hb dX5_likes_8 rfl (lv_at hl 1 rfl) ?_
        obtain ⟨v56, hc54, hs⟩ := ww_bnd hs
        refine ww_cr (va_runSN (As := [.int x1]) (rest := [.ref (L 87 i0)]) ⟨hx, hb, hml, hown, hts⟩ (c_X1_cropName g hgm l L σ x1 _ hc54) ⟨va_cnB 1 hts (lw_meth q1046) rfl rfl rfl (hW.nw 46 rfl) (hts _ q111) hd_X1_cropName.2 ⟨(Nat.le_of_ble_eq_true rfl), (Nat.le_of_ble_eq_true rfl)⟩, hts _ q1045, trivial⟩ (ww_preS hW) rfl rfl hl.1 rfl (lv_room (Nat.le_of_ble_eq_true rfl)) dX5_likes_9 ⟨Nat.le_of_ble_eq_true rfl, Nat.le_of_ble_eq_true rfl⟩) hW (fun H locs hW => ?_)
        obtain ⟨v59, σ60, hc57, hs⟩ := ww_bn2 hs
        obtain ⟨hc61, hs⟩ := ww_chk hs
        refine ww_ci (va_runV (As := [.ref (gk g v56)]) (rest := []) ⟨hx, hb, hml, hown, hts⟩ (c_X5_eats g hgm l L σ i0 v56 _ _ hc57) (cwV 1 hts (lw_V q986 q988 qs18 q118 q989) rfl rfl rfl hd_X5_eats ⟨(Nat.le_of_ble_eq_true rfl), (Nat.le_of_ble_eq_true rfl)⟩) (ww_preV hW (pr_dy hc61 rfl rfl) (obv_0 rfl) rfl) rfl rfl hl.1 rfl (lv_room (Nat.le_of_ble_eq_true rfl)) dX5_likes_12 ⟨Nat.le_of_ble_eq_true rfl, Nat.le_of_ble_eq_true rfl⟩) hW (fun H locs hW => ?_)
        refine lv_if_ne (tgt := 24) hx hb dX5_likes_15 (by decide) (fun hc62 => ?_) (fun hc62 => ?_)
        · have hs := ww_F hs hc62
          exact hL24 σ60 x1 _ _ ls hW (lv_sub hl [0, 1] rfl) hs
        · have hs := ww_T hs hc62
          refine lv_iinc (v := (x1 + (1 : Int32))) (lv' := [(1, .int (x1 + (1 : Int32))), (0, .ref (L 87 i0))]) hx hb dX5_likes_18 hl (k := 1) rfl rfl (by decide) rfl (fun ls hl => ?_)
          refine lv_goto (tgt := 2) hx hb dX5_likes_21 (by decide) ?_
          exact ih2 σ60 (x1 + (1 : Int32)) _ _ ls hW (lv_sub hl [1, 0] rfl) hs
  refine lv_iconst (v := 0) hx hb dX5_likes_0 (by decide) ?_
  refine lv_istore_n (lv' := [(1, .int (0 : Int32)), (0, .ref (L 87 i0))]) hx hb dX5_likes_1 rfl hl (by decide) rfl (fun ls hl => ?_)
  exact hL2 fu_ σ (0 : Int32) _ _ ls hW (lv_sub hl [1, 0] rfl) hs
set_option maxHeartbeats 4000000 in
theorem c_X5_choice (g : wg_T) (hgm : gm g = true) (l : Launch) (L : ly_T) (rec : st_T → Nat → Option ((Nat ⊕ Nat) × st_T)) (fr lo : Nat) (hrec : ∀ (L : ly_T) (σ : st_T) (i0 : Nat) (hst : l.stackTraces = false) (o_ : Nat ⊕ Nat) (σ_ : st_T), rec σ i0 = some (o_, σ_) → YR g l yX5_sum (ws_ yX5_sum cX5_sum 3 (some (.object "ElephantEdge$Formula"))) fr lo [.ref (L 87 i0)] L σ 91 o_ σ_) (σ : st_T) (i0 : Nat) (hst : l.stackTraces = false) (o_ : Nat ⊕ Nat) (σ_ : st_T) (hs : m_X5_choice rec σ i0 = some (o_, σ_)) : YR g l yX5_choice (ws_ yX5_choice cX5_choice 5 (some (.object "ElephantEdge$Formula"))) (fr + 10) (lo + 182) [.ref (L 87 i0)] L σ 91 o_ σ_ := by
  refine xbody.met (by decide) (Nat.le_of_ble_eq_true rfl) ?_
  intro p e s m args below meth c ls hx hb hr hml hlocks hts hown hnm hout hW hl
  have hown : s.vm.findClass RX5 = some m.cls := hown
  obtain ⟨L0, hL0⟩ : ∃ L0, L0 = L := ⟨_, rfl⟩
  obtain ⟨σ0, hσ0⟩ : ∃ σ0, σ0 = σ := ⟨_, rfl⟩
  rw [← hσ0, ← hL0]
  have hx0 : lext L0 σ0 L σ := by rw [hL0, hσ0]; exact lext.refl
  have hcs : bk σ0 σ 0 0 := bk.start hσ0
  have hrm : 0 ≤ cu_ σ_ - cu_ σ0 ∧ 0 ≤ su_ σ_ - su_ σ0 := ⟨Nat.zero_le _, Nat.zero_le _⟩
  have hl : lv_has ls 5 [(0, .ref (L 87 i0))] := hl
  unfold m_X5_choice at hs
  have hL34 : ∀ (L : ly_T) (σ : st_T) (ix1 : Nat) (x2 : Int32) (t1 : Int32) (H : Heap) (locs : List Loc) (cells slots : Nat) (ls : Array Slot), lext L0 σ0 L σ → bk σ0 σ cells slots → (cells ≤ cu_ σ_ - cu_ σ0 ∧ slots ≤ su_ σ_ - su_ σ0) → wv g L σ s H locs → lv_has ls 5 [(0, .ref (L 87 i0)), (1, .ref (L 91 ix1)), (2, .int x2)] → (m_X5_choice_L34 rec i0) σ ix1 x2 t1 = some (o_, σ_) → W p l e (wrA (fr + 10) (lo + 182) σ0 σ_) s m args below meth c H locs cells slots (vx_MQ below (yXr g L0 σ0 91 o_ σ_) (yX g L0 σ0 o_ σ_) args s (cu_ σ_ - cu_ σ0) (su_ σ_ - su_ σ0) (fun q => gz g ≤ q)) (F0 m 34 ls [.int t1, .ref (L 87 i0)]) := by
    intro L σ ix1 x2 t1 H locs cells slots ls hx0 hcs hrm hW hl hs
    unfold m_X5_choice_L34 at hs
    obtain ⟨o3, hc1, hs⟩ := ww_bnd hs
    obtain ⟨hc6, hs⟩ := ww_chk hs
    rcases o3 with k4 | v5
    · have hs := ww_sL hs
      have hs := ww_S hs
      have e1 : o_ = .inl k4 := congrArg Prod.fst hs
      have e2 : σ_ = bX_ σ := congrArg Prod.snd hs
      subst e1
      have hrmx := hcs.room (σ1 := bX_ σ) (σ_ := σ_) (a := 1) (b := 6) rfl rfl (by rw [e2]; exact ⟨Nat.le_refl _, Nat.le_refl _⟩)
      exact wz_prop (vx_runV (As := [.int t1]) (rest := []) ⟨hx, hb, hml, hown, hts⟩ (c_X5_right g hgm l L σ i0 t1 hst _ hc1) (cwV 1 hts (lw_V q962 q964 qs16 q118 q965) rfl rfl rfl hd_X5_right ⟨(by simp only [wrA, wrm]; omega), (by simp only [wrA, wrm]; omega)⟩) (ww_preV hW (pr_dy hc6 rfl rfl) (obv_0 rfl) rfl) rfl rfl hl.1 rfl (lv_room (Nat.le_of_ble_eq_true rfl)) dX5_choice_34 hrmx) no_v hx0 hW hlocks hout rfl e2 hrmx
    · have hs := ww_sR hs
      refine ww_xv0 (vx_runV (As := [.int t1]) (rest := []) ⟨hx, hb, hml, hown, hts⟩ (c_X5_right g hgm l L σ i0 t1 hst _ hc1) (cwV 1 hts (lw_V q962 q964 qs16 q118 q965) rfl rfl rfl hd_X5_right ⟨(by simp only [wrA, wrm]; omega), (by simp only [wrA, wrm]; omega)⟩) (ww_preV hW (pr_dy hc6 rfl rfl) (obv_0 rfl) rfl) rfl rfl hl.1 rfl (lv_room (Nat.le_of_ble_eq_true rfl)) dX5_choice_34 hrm) hW (fun H locs hW => ?_)
      refine lv_aload_n hx hb dX5_choice_37 rfl (lv_at hl 0 rfl) ?_
      refine lv_dup hx hb dX5_choice_38 rfl ?_
      refine gf_X5_111 hx hb hts hown hW (pr_dy hc6 rfl rfl) dX5_choice_39 ?_
      refine lv_iconst (v := 1) hx hb dX5_choice_42 (by decide) ?_
      refine lv_iadd hx hb dX5_choice_43 ?_
      obtain ⟨σ7, e8, hs⟩ := ww_let hs
      refine pf_X5_111 hx hb hts hown hW (pr_dy hc6 rfl rfl) dX5_choice_44 (fun H locs hW => ?_)
      have hW : wv g L σ7 s H locs := by rw [e8]; exact hW
      obtain ⟨hx0, hcs⟩ := lx_s (σ1 := σ7) hx0 hcs (by rw [e8]; exact kp_F)
      have hc9 : i0 < gN_ σ7 87 := by rw [e8]; exact hc6
      have hp10 : pr σ7 87 i0 := (pr_dy hc9 rfl rfl)
      obtain ⟨hc11, hs⟩ := ww_chk hs
      have hp12 : pr σ7 91 ix1 := (pr_dy hc11 rfl rfl)
      obtain ⟨σ13, e14, hs⟩ := ww_let hs
      obtain ⟨hs, hck⟩ := ww_ck2 hs
      have hrm1 := hcs.room (σ1 := σ13) (a := 1) (b := 3) (by rw [e14]; rfl) (by rw [e14]; rfl) hck
      refine ww_newo (ci := 18) hx hb hts in_X12 tyX12 tyX12_ok hown (hts _ q1090) (hts _ q1091) (hts _ q138) hW 91 5 (obv_6 (t := 5) rfl (by rw [gP_nO _ _ _ _ _ _ _ (by decide), if_pos ⟨rfl, rfl⟩]; rfl)) rfl df_91_5 (Nat.le_of_ble_eq_true rfl) rfl sole_91 (Or.inl rfl) (Or.inr (Or.inl rfl)) hrm1.1 hrm1.2 dX5_choice_47 (fun H L hx1 hW => ?_)
      rw [← e14] at hx1 hW
      have hcs := hcs.more (σ1 := σ13) (a := 1) (b := 3) (by rw [e14]; rfl) (by rw [e14]; rfl)
      have hrm := hrm1
      have hc15 : i0 < gN_ σ13 87 := Nat.lt_of_lt_of_le hc9 (hx1.2.1 87)
      have hc16 : ix1 < gN_ σ13 91 := Nat.lt_of_lt_of_le hc11 (hx1.2.1 91)
      have hc17 : gN_ σ7 91 < gN_ σ13 91 := by rw [e14]; exact nO_lt rfl
      rw [show ow_ 91 = 91 from rfl]
      have hl : lv_has ls 5 [(0, .ref (L 87 i0)), (1, .ref (L 91 ix1)), (2, .int x2)] := by rw [hx1.at hp10 (by decide), hx1.at hp12 (by decide)]; exact hl
      have hx0 := hx0.trans hx1
      refine lv_dup hx hb dX5_choice_50 rfl ?_
      refine lv_iload_n hx hb dX5_choice_51 rfl (lv_at hl 2 rfl) ?_
      refine lv_aload_n hx hb dX5_choice_52 rfl (lv_at hl 1 rfl) ?_
      refine lv_aload_n hx hb dX5_choice_53 rfl (lv_at hl 0 rfl) ?_
      obtain ⟨o20, σ21, hc18, hs⟩ := ww_bn2 hs
      have hl : lv_has ls 5 [(0, .ref (L 87 i0))] := lv_sub hl [0] rfl
      have hp24 : pr σ13 87 i0 := (pr_dy hc15 rfl rfl)
      have hp25 : pr σ13 91 (gN_ σ7 91) := (pr_dy hc17 rfl rfl)
      have hp26 : pr σ13 91 ix1 := (pr_dy hc16 rfl rfl)
      obtain ⟨hc27, hs⟩ := ww_chk hs
      obtain ⟨hs, hck⟩ := ww_ck2 hs
      have hrm1 := hcs.roomC hc27 hck
      rcases o20 with k22 | v23
      · have hs := ww_sL hs
        have hs := ww_S hs
        have e1 : o_ = .inl k22 := congrArg Prod.fst hs
        have e2 : σ_ = σ21 := congrArg Prod.snd hs
        subst e1
        exact wz_propA (vx_runV (As := []) (rest := [.ref (L 91 ix1), .int x2, .ref (L 91 (gN_ σ7 91)), .ref (L 91 (gN_ σ7 91))]) ⟨hx, hb, hml, hown, hts⟩ (hrec L σ13 i0 hst _ _ hc18) (cwV 0 hts (lw_V q1063 q1065 qs22 q118 q1066) rfl rfl rfl hd_X5_sum ⟨(by simp only [wrA, wrm]; omega), (by simp only [wrA, wrm]; omega)⟩) (ww_preV hW (pr_dy hc15 rfl rfl) (obv_0 rfl) rfl) rfl rfl hl.1 rfl (lv_room (Nat.le_of_ble_eq_true rfl)) dX5_choice_54 hrm1) noA_r hx0 hW hlocks hout rfl e2 hrm1
      · have hs := ww_sR hs
        refine wz_cr (vx_runV (As := []) (rest := [.ref (L 91 ix1), .int x2, .ref (L 91 (gN_ σ7 91)), .ref (L 91 (gN_ σ7 91))]) ⟨hx, hb, hml, hown, hts⟩ (hrec L σ13 i0 hst _ _ hc18) (cwV 0 hts (lw_V q1063 q1065 qs22 q118 q1066) rfl rfl rfl hd_X5_sum ⟨(by simp only [wrA, wrm]; omega), (by simp only [wrA, wrm]; omega)⟩) (ww_preV hW (pr_dy hc15 rfl rfl) (obv_0 rfl) rfl) rfl rfl hl.1 rfl (lv_room (Nat.le_of_ble_eq_true rfl)) dX5_choice_54 hrm1) hW (fun H locs L hx1 hW => ?_)
        have hc28 : i0 < gN_ σ21 87 := Nat.lt_of_lt_of_le hc15 (hx1.2.1 87)
        have hc29 : ix1 < gN_ σ21 91 := Nat.lt_of_lt_of_le hc16 (hx1.2.1 91)
        have hc30 : (gN_ σ7 91) < gN_ σ21 91 := Nat.lt_of_lt_of_le hc17 (hx1.2.1 91)
        have hcs := hcs.call hc27
        have hrm := hrm1
        have hl : lv_has ls 5 [(0, .ref (L 87 i0))] := by rw [hx1.at hp24 (by decide)]; exact hl
        refine ww_stk (st1 := [.ref (L 91 v23), .ref (L 91 ix1), .int x2, .ref (L 91 (gN_ σ7 91)), .ref (L 91 (gN_ σ7 91))]) (by rw [hx1.at hp25 (by decide), hx1.at hp26 (by decide)]) ?_
        have hx0 := hx0.trans hx1
        obtain ⟨σ33, hc31, hs⟩ := ww_bnd hs
        have hW := hW.raw
        obtain ⟨hkp, hs⟩ := ww_pif hs
        obtain ⟨hx0, hcs⟩ := lx_s hx0 hcs hkp
        refine ww_cv (va_runI (As := [.int x2, .ref (L 91 ix1), .ref (L 91 v23)]) (rest := [.ref (L 91 (gN_ σ7 91))]) ⟨hx, hb, hml, hown, hts⟩ (c_X12_init (rw_ g) rfl l L σ21 (gN_ σ7 91) x2 ix1 v23 _ hc31) (cwI 3 hts (lw_meth q1094) rfl rfl rfl (hts _ q138) (hts _ q1092) (hts _ q1093) rfl hd_X12_init.2 ⟨(by simp only [wrA, wrm]; omega), (by simp only [wrA, wrm]; omega)⟩) (ww_preS hW) rfl rfl hl.1 rfl (lv_room (Nat.le_of_ble_eq_true rfl)) dX5_choice_57 hrm) hW (fun H locs hW => ?_)
        have hc34 : i0 < gN_ σ33 87 := by rw [hkp.1]; exact hc28
        have hc35 : ix1 < gN_ σ33 91 := by rw [hkp.1]; exact hc29
        have hc36 : (gN_ σ7 91) < gN_ σ33 91 := by rw [hkp.1]; exact hc30
        obtain ⟨hrdy, hs⟩ := ww_pif hs
        have hW := hW.ready hrdy
        refine lv_astore_n (lv' := [(3, .ref (L 91 (gN_ σ7 91))), (0, .ref (L 87 i0))]) hx hb dX5_choice_60 rfl hl (by decide) rfl (fun ls hl => ?_)
        refine lv_aload_n hx hb dX5_choice_61 rfl (lv_at hl 1 rfl) ?_
        refine lv_bipush (v := 44) hx hb dX5_choice_62 (by decide) ?_
        obtain ⟨o39, σ40, hc37, hs⟩ := ww_bn2 hs
        obtain ⟨hkp, hs⟩ := ww_pif hs
        obtain ⟨hx0, hcs⟩ := lx_s hx0 hcs hkp
        rcases o39 with k41 | v42
        · have hs := ww_sL hs
          have hs := ww_S hs
          have e1 : o_ = .inl k41 := congrArg Prod.fst hs
          have e2 : σ_ = bX_ σ40 := congrArg Prod.snd hs
          subst e1
          have hrmx := hcs.room (σ1 := bX_ σ40) (σ_ := σ_) (a := 1) (b := 6) rfl rfl (by rw [e2]; exact ⟨Nat.le_refl _, Nat.le_refl _⟩)
          exact wz_prop (vx_runV (As := [.int (44 : Int32)]) (rest := []) ⟨hx, hb, hml, hown, hts⟩ (c_X5_sign g hgm l L σ33 i0 (44 : Int32) hst _ _ hc37) (cwV 1 hts (lw_V q1102 q1104 qs26 q118 q1105) rfl rfl rfl hd_X5_sign ⟨(by simp only [wrA, wrm]; omega), (by simp only [wrA, wrm]; omega)⟩) (ww_preV hW (pr_dy hc34 rfl rfl) (obv_0 rfl) rfl) rfl rfl hl.1 rfl (lv_room (Nat.le_of_ble_eq_true rfl)) dX5_choice_64 hrmx) no_v hx0 hW hlocks hout rfl e2 hrmx
        · have hs := ww_sR hs
          refine ww_xv0 (vx_runV (As := [.int (44 : Int32)]) (rest := []) ⟨hx, hb, hml, hown, hts⟩ (c_X5_sign g hgm l L σ33 i0 (44 : Int32) hst _ _ hc37) (cwV 1 hts (lw_V q1102 q1104 qs26 q118 q1105) rfl rfl rfl hd_X5_sign ⟨(by simp only [wrA, wrm]; omega), (by simp only [wrA, wrm]; omega)⟩) (ww_preV hW (pr_dy hc34 rfl rfl) (obv_0 rfl) rfl) rfl rfl hl.1 rfl (lv_room (Nat.le_of_ble_eq_true rfl)) dX5_choice_64 hrm) hW (fun H locs hW => ?_)
          have hc43 : i0 < gN_ σ40 87 := by rw [hkp.1]; exact hc34
          have hc44 : ix1 < gN_ σ40 91 := by rw [hkp.1]; exact hc35
          have hc45 : (gN_ σ7 91) < gN_ σ40 91 := by rw [hkp.1]; exact hc36
          refine lv_aload_n hx hb dX5_choice_67 rfl (lv_at hl 1 rfl) ?_
          obtain ⟨o48, σ49, hc46, hs⟩ := ww_bn2 hs
          have hp52 : pr σ40 91 (gN_ σ7 91) := (pr_dy hc45 rfl rfl)
          have hp53 : pr σ40 87 i0 := (pr_dy hc43 rfl rfl)
          obtain ⟨hc54, hs⟩ := ww_chk hs
          obtain ⟨hs, hck⟩ := ww_ck2 hs
          have hrm1 := hcs.roomC hc54 hck
          rcases o48 with k50 | v51
          · have hs := ww_sL hs
            have hs := ww_S hs
            have e1 : o_ = .inl k50 := congrArg Prod.fst hs
            have e2 : σ_ = σ49 := congrArg Prod.snd hs
            subst e1
            exact wz_propA (vx_runV (As := []) (rest := []) ⟨hx, hb, hml, hown, hts⟩ (hrec L σ40 i0 hst _ _ hc46) (cwV 0 hts (lw_V q1063 q1065 qs22 q118 q1066) rfl rfl rfl hd_X5_sum ⟨(by simp only [wrA, wrm]; omega), (by simp only [wrA, wrm]; omega)⟩) (ww_preV hW (pr_dy hc43 rfl rfl) (obv_0 rfl) rfl) rfl rfl hl.1 rfl (lv_room (Nat.le_of_ble_eq_true rfl)) dX5_choice_68 hrm1) noA_r hx0 hW hlocks hout rfl e2 hrm1
          · have hs := ww_sR hs
            refine wz_cr (vx_runV (As := []) (rest := []) ⟨hx, hb, hml, hown, hts⟩ (hrec L σ40 i0 hst _ _ hc46) (cwV 0 hts (lw_V q1063 q1065 qs22 q118 q1066) rfl rfl rfl hd_X5_sum ⟨(by simp only [wrA, wrm]; omega), (by simp only [wrA, wrm]; omega)⟩) (ww_preV hW (pr_dy hc43 rfl rfl) (obv_0 rfl) rfl) rfl rfl hl.1 rfl (lv_room (Nat.le_of_ble_eq_true rfl)) dX5_choice_68 hrm1) hW (fun H locs L hx1 hW => ?_)
            have hc55 : i0 < gN_ σ49 87 := Nat.lt_of_lt_of_le hc43 (hx1.2.1 87)
            have hc56 : ix1 < gN_ σ49 91 := Nat.lt_of_lt_of_le hc44 (hx1.2.1 91)
            have hc57 : (gN_ σ7 91) < gN_ σ49 91 := Nat.lt_of_lt_of_le hc45 (hx1.2.1 91)
            have hcs := hcs.call hc54
            have hrm := hrm1
            have hl : lv_has ls 5 [(3, .ref (L 91 (gN_ σ7 91))), (0, .ref (L 87 i0))] := by rw [hx1.at hp52 (by decide), hx1.at hp53 (by decide)]; exact hl
            have hx0 := hx0.trans hx1
            refine lv_astore (lv' := [(4, .ref (L 91 v51)), (3, .ref (L 91 (gN_ σ7 91))), (0, .ref (L 87 i0))]) hx hb dX5_choice_71 hl (by decide) rfl (fun ls hl => ?_)
            refine lv_aload_n hx hb dX5_choice_73 rfl (lv_at hl 2 rfl) ?_
            refine lv_bipush (v := 44) hx hb dX5_choice_74 (by decide) ?_
            obtain ⟨o60, σ61, hc58, hs⟩ := ww_bn2 hs
            obtain ⟨hkp, hs⟩ := ww_pif hs
            obtain ⟨hx0, hcs⟩ := lx_s hx0 hcs hkp
            rcases o60 with k62 | v63
            · have hs := ww_sL hs
              have hs := ww_S hs
              have e1 : o_ = .inl k62 := congrArg Prod.fst hs
              have e2 : σ_ = bX_ σ61 := congrArg Prod.snd hs
              subst e1
              have hrmx := hcs.room (σ1 := bX_ σ61) (σ_ := σ_) (a := 1) (b := 6) rfl rfl (by rw [e2]; exact ⟨Nat.le_refl _, Nat.le_refl _⟩)
              exact wz_prop (vx_runV (As := [.int (44 : Int32)]) (rest := []) ⟨hx, hb, hml, hown, hts⟩ (c_X5_sign g hgm l L σ49 i0 (44 : Int32) hst _ _ hc58) (cwV 1 hts (lw_V q1102 q1104 qs26 q118 q1105) rfl rfl rfl hd_X5_sign ⟨(by simp only [wrA, wrm]; omega), (by simp only [wrA, wrm]; omega)⟩) (ww_preV hW (pr_dy hc55 rfl rfl) (obv_0 rfl) rfl) rfl rfl hl.1 rfl (lv_room (Nat.le_of_ble_eq_true rfl)) dX5_choice_76 hrmx) no_v hx0 hW hlocks hout rfl e2 hrmx
            · have hs := ww_sR hs
              refine ww_xv0 (vx_runV (As := [.int (44 : Int32)]) (rest := []) ⟨hx, hb, hml, hown, hts⟩ (c_X5_sign g hgm l L σ49 i0 (44 : Int32) hst _ _ hc58) (cwV 1 hts (lw_V q1102 q1104 qs26 q118 q1105) rfl rfl rfl hd_X5_sign ⟨(by simp only [wrA, wrm]; omega), (by simp only [wrA, wrm]; omega)⟩) (ww_preV hW (pr_dy hc55 rfl rfl) (obv_0 rfl) rfl) rfl rfl hl.1 rfl (lv_room (Nat.le_of_ble_eq_true rfl)) dX5_choice_76 hrm) hW (fun H locs hW => ?_)
              have hc64 : i0 < gN_ σ61 87 := by rw [hkp.1]; exact hc55
              have hc65 : ix1 < gN_ σ61 91 := by rw [hkp.1]; exact hc56
              have hc66 : (gN_ σ7 91) < gN_ σ61 91 := by rw [hkp.1]; exact hc57
              obtain ⟨hc67, hs⟩ := ww_chk hs
              have hp68 : pr σ61 91 v51 := (pr_dy hc67 rfl rfl)
              have hp69 : pr σ61 91 (gN_ σ7 91) := (pr_dy hc66 rfl rfl)
              have hp70 : pr σ61 87 i0 := (pr_dy hc64 rfl rfl)
              obtain ⟨σ71, e72, hs⟩ := ww_let hs
              obtain ⟨hs, hck⟩ := ww_ck2 hs
              have hrm1 := hcs.room (σ1 := σ71) (a := 1) (b := 3) (by rw [e72]; rfl) (by rw [e72]; rfl) hck
              refine ww_newo (ci := 19) hx hb hts in_X13 tyX13 tyX13_ok hown (hts _ q1106) (hts _ q1107) (hts _ q139) hW 91 6 (obv_6 (t := 6) rfl (by rw [gP_nO _ _ _ _ _ _ _ (by decide), if_pos ⟨rfl, rfl⟩]; rfl)) rfl df_91_6 (Nat.le_of_ble_eq_true rfl) rfl sole_91 (Or.inl rfl) (Or.inr (Or.inl rfl)) hrm1.1 hrm1.2 dX5_choice_79 (fun H L hx1 hW => ?_)
              rw [← e72] at hx1 hW
              have hcs := hcs.more (σ1 := σ71) (a := 1) (b := 3) (by rw [e72]; rfl) (by rw [e72]; rfl)
              have hrm := hrm1
              have hc73 : i0 < gN_ σ71 87 := Nat.lt_of_lt_of_le hc64 (hx1.2.1 87)
              have hc74 : ix1 < gN_ σ71 91 := Nat.lt_of_lt_of_le hc65 (hx1.2.1 91)
              have hc75 : (gN_ σ7 91) < gN_ σ71 91 := Nat.lt_of_lt_of_le hc66 (hx1.2.1 91)
              have hc76 : v51 < gN_ σ71 91 := Nat.lt_of_lt_of_le hc67 (hx1.2.1 91)
              have hc77 : gN_ σ61 91 < gN_ σ71 91 := by rw [e72]; exact nO_lt rfl
              rw [show ow_ 91 = 91 from rfl]
              have hl : lv_has ls 5 [(4, .ref (L 91 v51)), (3, .ref (L 91 (gN_ σ7 91))), (0, .ref (L 87 i0))] := by rw [hx1.at hp68 (by decide), hx1.at hp69 (by decide), hx1.at hp70 (by decide)]; exact hl
              have hx0 := hx0.trans hx1
              refine lv_dup hx hb dX5_choice_82 rfl ?_
              refine lv_aload_n hx hb dX5_choice_83 rfl (lv_at hl 1 rfl) ?_
              refine lv_aload hx hb dX5_choice_84 (lv_at hl 0 rfl) ?_
              refine lv_aload_n hx hb dX5_choice_86 rfl (lv_at hl 2 rfl) ?_
              obtain ⟨o80, σ81, hc78, hs⟩ := ww_bn2 hs
              have hl : lv_has ls 5 [] := lv_sub hl [] rfl
              have hp84 : pr σ71 91 (gN_ σ61 91) := (pr_dy hc77 rfl rfl)
              have hp85 : pr σ71 91 (gN_ σ7 91) := (pr_dy hc75 rfl rfl)
              have hp86 : pr σ71 91 v51 := (pr_dy hc76 rfl rfl)
              obtain ⟨hc87, hs⟩ := ww_chk hs
              obtain ⟨hs, hck⟩ := ww_ck2 hs
              have hrm1 := hcs.roomC hc87 hck
              rcases o80 with k82 | v83
              · have hs := ww_sL hs
                have hs := ww_S hs
                have e1 : o_ = .inl k82 := congrArg Prod.fst hs
                have e2 : σ_ = σ81 := congrArg Prod.snd hs
                subst e1
                exact wz_propA (vx_runV (As := []) (rest := [.ref (L 91 v51), .ref (L 91 (gN_ σ7 91)), .ref (L 91 (gN_ σ61 91)), .ref (L 91 (gN_ σ61 91))]) ⟨hx, hb, hml, hown, hts⟩ (hrec L σ71 i0 hst _ _ hc78) (cwV 0 hts (lw_V q1063 q1065 qs22 q118 q1066) rfl rfl rfl hd_X5_sum ⟨(by simp only [wrA, wrm]; omega), (by simp only [wrA, wrm]; omega)⟩) (ww_preV hW (pr_dy hc73 rfl rfl) (obv_0 rfl) rfl) rfl rfl hl.1 rfl (lv_room (Nat.le_of_ble_eq_true rfl)) dX5_choice_87 hrm1) noA_r hx0 hW hlocks hout rfl e2 hrm1
              · have hs := ww_sR hs
                refine wz_cr (vx_runV (As := []) (rest := [.ref (L 91 v51), .ref (L 91 (gN_ σ7 91)), .ref (L 91 (gN_ σ61 91)), .ref (L 91 (gN_ σ61 91))]) ⟨hx, hb, hml, hown, hts⟩ (hrec L σ71 i0 hst _ _ hc78) (cwV 0 hts (lw_V q1063 q1065 qs22 q118 q1066) rfl rfl rfl hd_X5_sum ⟨(by simp only [wrA, wrm]; omega), (by simp only [wrA, wrm]; omega)⟩) (ww_preV hW (pr_dy hc73 rfl rfl) (obv_0 rfl) rfl) rfl rfl hl.1 rfl (lv_room (Nat.le_of_ble_eq_true rfl)) dX5_choice_87 hrm1) hW (fun H locs L hx1 hW => ?_)
                have hc88 : i0 < gN_ σ81 87 := Nat.lt_of_lt_of_le hc73 (hx1.2.1 87)
                have hc89 : ix1 < gN_ σ81 91 := Nat.lt_of_lt_of_le hc74 (hx1.2.1 91)
                have hc90 : (gN_ σ7 91) < gN_ σ81 91 := Nat.lt_of_lt_of_le hc75 (hx1.2.1 91)
                have hc91 : v51 < gN_ σ81 91 := Nat.lt_of_lt_of_le hc76 (hx1.2.1 91)
                have hc92 : (gN_ σ61 91) < gN_ σ81 91 := Nat.lt_of_lt_of_le hc77 (hx1.2.1 91)
                have hcs := hcs.call hc87
                have hrm := hrm1
                refine ww_stk (st1 := [.ref (L 91 v83), .ref (L 91 v51), .ref (L 91 (gN_ σ7 91)), .ref (L 91 (gN_ σ61 91)), .ref (L 91 (gN_ σ61 91))]) (by rw [hx1.at hp84 (by decide), hx1.at hp85 (by decide), hx1.at hp86 (by decide)]) ?_
                have hx0 := hx0.trans hx1
                obtain ⟨σ95, hc93, hs⟩ := ww_bnd hs
                have hW := hW.raw
                obtain ⟨hkp, hs⟩ := ww_pif hs
                obtain ⟨hx0, hcs⟩ := lx_s hx0 hcs hkp
                refine ww_cv (va_runI (As := [.ref (L 91 (gN_ σ7 91)), .ref (L 91 v51), .ref (L 91 v83)]) (rest := [.ref (L 91 (gN_ σ61 91))]) ⟨hx, hb, hml, hown, hts⟩ (c_X13_init (rw_ g) rfl l L σ81 (gN_ σ61 91) (gN_ σ7 91) v51 v83 _ hc93) (cwI 3 hts (lw_meth q1110) rfl rfl rfl (hts _ q139) (hts _ q1108) (hts _ q1109) rfl hd_X13_init.2 ⟨(by simp only [wrA, wrm]; omega), (by simp only [wrA, wrm]; omega)⟩) (ww_preS hW) rfl rfl hl.1 rfl (lv_room (Nat.le_of_ble_eq_true rfl)) dX5_choice_90 hrm) hW (fun H locs hW => ?_)
                have hc96 : i0 < gN_ σ95 87 := by rw [hkp.1]; exact hc88
                have hc97 : ix1 < gN_ σ95 91 := by rw [hkp.1]; exact hc89
                have hc98 : (gN_ σ7 91) < gN_ σ95 91 := by rw [hkp.1]; exact hc90
                have hc99 : v51 < gN_ σ95 91 := by rw [hkp.1]; exact hc91
                have hc100 : (gN_ σ61 91) < gN_ σ95 91 := by rw [hkp.1]; exact hc92
                obtain ⟨hrdy, hs⟩ := ww_pif hs
                have hW := hW.ready hrdy
                have hs := ww_S hs
                exact wz_r hx hb hr hlocks hx0 hcs hW (congrArg Prod.fst hs) (congrArg Prod.snd hs) dX5_choice_93
  have hL29 : ∀ (L : ly_T) (σ : st_T) (ix1 : Nat) (x2 : Int32) (H : Heap) (locs : List Loc) (cells slots : Nat) (ls : Array Slot), lext L0 σ0 L σ → bk σ0 σ cells slots → (cells ≤ cu_ σ_ - cu_ σ0 ∧ slots ≤ su_ σ_ - su_ σ0) → wv g L σ s H locs → lv_has ls 5 [(0, .ref (L 87 i0)), (1, .ref (L 91 ix1)), (2, .int x2)] → (m_X5_choice_L29 rec i0 (m_X5_choice_L34 rec i0)) σ ix1 x2 = some (o_, σ_) → W p l e (wrA (fr + 10) (lo + 182) σ0 σ_) s m args below meth c H locs cells slots (vx_MQ below (yXr g L0 σ0 91 o_ σ_) (yX g L0 σ0 o_ σ_) args s (cu_ σ_ - cu_ σ0) (su_ σ_ - su_ σ0) (fun q => gz g ≤ q)) (F0 m 29 ls [.ref (L 87 i0)]) := by
    intro L σ ix1 x2 H locs cells slots ls hx0 hcs hrm hW hl hs
    unfold m_X5_choice_L29 at hs
    refine lv_iconst (v := 1) hx hb dX5_choice_29 (by decide) ?_
    refine lv_goto (tgt := 34) hx hb dX5_choice_30 (by decide) ?_
    exact hL34 L σ ix1 x2 (1 : Int32) _ _ _ _ ls hx0 hcs hrm hW (lv_sub hl [0, 1, 2] rfl) hs
  refine lv_aload_n hx hb dX5_choice_0 rfl (lv_at hl 0 rfl) ?_
  obtain ⟨o103, σ104, hc101, hs⟩ := ww_bn2 hs
  obtain ⟨hc107, hs⟩ := ww_chk hs
  have hp108 : pr σ 87 i0 := (pr_dy hc107 rfl rfl)
  obtain ⟨hc109, hs⟩ := ww_chk hs
  obtain ⟨hs, hck⟩ := ww_ck2 hs
  have hrm1 := hcs.roomC hc109 hck
  rcases o103 with k105 | v106
  · have hs := ww_sL hs
    have hs := ww_S hs
    have e1 : o_ = .inl k105 := congrArg Prod.fst hs
    have e2 : σ_ = σ104 := congrArg Prod.snd hs
    subst e1
    exact wz_propA (vx_runV (As := []) (rest := []) ⟨hx, hb, hml, hown, hts⟩ (hrec L σ i0 hst _ _ hc101) (cwV 0 hts (lw_V q1063 q1065 qs22 q118 q1066) rfl rfl rfl hd_X5_sum ⟨(by simp only [wrA, wrm]; omega), (by simp only [wrA, wrm]; omega)⟩) (ww_preV hW (pr_dy hc107 rfl rfl) (obv_0 rfl) rfl) rfl rfl hl.1 rfl (lv_room (Nat.le_of_ble_eq_true rfl)) dX5_choice_1 hrm1) noA_r hx0 hW hlocks hout rfl e2 hrm1
  · have hs := ww_sR hs
    refine wz_cr (vx_runV (As := []) (rest := []) ⟨hx, hb, hml, hown, hts⟩ (hrec L σ i0 hst _ _ hc101) (cwV 0 hts (lw_V q1063 q1065 qs22 q118 q1066) rfl rfl rfl hd_X5_sum ⟨(by simp only [wrA, wrm]; omega), (by simp only [wrA, wrm]; omega)⟩) (ww_preV hW (pr_dy hc107 rfl rfl) (obv_0 rfl) rfl) rfl rfl hl.1 rfl (lv_room (Nat.le_of_ble_eq_true rfl)) dX5_choice_1 hrm1) hW (fun H locs L hx1 hW => ?_)
    have hc110 : i0 < gN_ σ104 87 := Nat.lt_of_lt_of_le hc107 (hx1.2.1 87)
    have hcs := hcs.call hc109
    have hrm := hrm1
    have hl : lv_has ls 5 [(0, .ref (L 87 i0))] := by rw [hx1.at hp108 (by decide)]; exact hl
    have hx0 := hx0.trans hx1
    refine lv_astore_n (lv' := [(1, .ref (L 91 v106)), (0, .ref (L 87 i0))]) hx hb dX5_choice_4 rfl hl (by decide) rfl (fun ls hl => ?_)
    refine lv_aload_n hx hb dX5_choice_5 rfl (lv_at hl 1 rfl) ?_
    obtain ⟨v113, σ114, hc111, hs⟩ := ww_bn2 hs
    obtain ⟨hkp, hs⟩ := ww_pif hs
    obtain ⟨hx0, hcs⟩ := lx_s hx0 hcs hkp
    refine ww_ci (va_runV (As := []) (rest := []) ⟨hx, hb, hml, hown, hts⟩ (c_X5_now g hgm l L σ104 i0 _ _ hc111) (cwV 0 hts (lw_V q958 q960 qs15 q118 q961) rfl rfl rfl hd_X5_now ⟨(by simp only [wrA, wrm]; omega), (by simp only [wrA, wrm]; omega)⟩) (ww_preV hW (pr_dy hc110 rfl rfl) (obv_0 rfl) rfl) rfl rfl hl.1 rfl (lv_room (Nat.le_of_ble_eq_true rfl)) dX5_choice_6 hrm) hW (fun H locs hW => ?_)
    have hc115 : i0 < gN_ σ114 87 := by rw [hkp.1]; exact hc110
    refine lv_istore_n (lv' := [(2, .int v113), (1, .ref (L 91 v106)), (0, .ref (L 87 i0))]) hx hb dX5_choice_9 rfl hl (by decide) rfl (fun ls hl => ?_)
    refine lv_aload_n hx hb dX5_choice_10 rfl (lv_at hl 2 rfl) ?_
    refine lv_iload_n hx hb dX5_choice_11 rfl (lv_at hl 0 rfl) ?_
    refine lv_bipush (v := 60) hx hb dX5_choice_12 (by decide) ?_
    refine lv_icmp_eq (tgt := 29) hx hb dX5_choice_14 (by decide) (fun hc116 => ?_) (fun hc116 => ?_)
    · have hs := ww_T hs hc116
      exact hL29 L σ114 v106 v113 _ _ _ _ ls hx0 hcs hrm hW (lv_sub hl [2, 1, 0] rfl) hs
    · have hs := ww_F hs hc116
      refine lv_iload_n hx hb dX5_choice_17 rfl (lv_at hl 0 rfl) ?_
      refine lv_bipush (v := 62) hx hb dX5_choice_18 (by decide) ?_
      refine lv_icmp_eq (tgt := 29) hx hb dX5_choice_20 (by decide) (fun hc117 => ?_) (fun hc117 => ?_)
      · have hs := ww_T hs hc117
        exact hL29 L σ114 v106 v113 _ _ _ _ ls hx0 hcs hrm hW (lv_sub hl [2, 1, 0] rfl) hs
      · have hs := ww_F hs hc117
        refine lv_iload_n hx hb dX5_choice_23 rfl (lv_at hl 0 rfl) ?_
        refine lv_bipush (v := 61) hx hb dX5_choice_24 (by decide) ?_
        refine lv_icmp_ne (tgt := 33) hx hb dX5_choice_26 (by decide) (fun hc118 => ?_) (fun hc118 => ?_)
        · have hs := ww_F hs hc118
          refine lv_iconst (v := 0) hx hb dX5_choice_33 (by decide) ?_
          exact hL34 L σ114 v106 v113 (0 : Int32) _ _ _ _ ls hx0 hcs hrm hW (lv_sub hl [2, 1, 0] rfl) hs
        · have hs := ww_T hs hc118
          exact hL29 L σ114 v106 v113 _ _ _ _ ls hx0 hcs hrm hW (lv_sub hl [2, 1, 0] rfl) hs
set_option maxHeartbeats 4000000 in
theorem c_X5_one (g : wg_T) (hgm : gm g = true) (l : Launch) (L : ly_T) (rec : st_T → Nat → Option ((Nat ⊕ Nat) × st_T)) (fr lo : Nat) (hrec : ∀ (L : ly_T) (σ : st_T) (i0 : Nat) (hst : l.stackTraces = false) (o_ : Nat ⊕ Nat) (σ_ : st_T), rec σ i0 = some (o_, σ_) → YR g l yX5_sum (ws_ yX5_sum cX5_sum 3 (some (.object "ElephantEdge$Formula"))) fr lo [.ref (L 87 i0)] L σ 91 o_ σ_) (σ : st_T) (i0 : Nat) (hst : l.stackTraces = false) (o_ : Nat ⊕ Nat) (σ_ : st_T) (hs : m_X5_one rec σ i0 = some (o_, σ_)) : YR g l yX5_one (ws_ yX5_one cX5_one 5 (some (.object "ElephantEdge$Formula"))) (fr + 11) (lo + 293) [.ref (L 87 i0)] L σ 91 o_ σ_ := by
  refine xbody.met (by decide) (Nat.le_of_ble_eq_true rfl) ?_
  intro p e s m args below meth c ls hx hb hr hml hlocks hts hown hnm hout hW hl
  have hown : s.vm.findClass RX5 = some m.cls := hown
  obtain ⟨L0, hL0⟩ : ∃ L0, L0 = L := ⟨_, rfl⟩
  obtain ⟨σ0, hσ0⟩ : ∃ σ0, σ0 = σ := ⟨_, rfl⟩
  rw [← hσ0, ← hL0]
  have hx0 : lext L0 σ0 L σ := by rw [hL0, hσ0]; exact lext.refl
  have hcs : bk σ0 σ 0 0 := bk.start hσ0
  have hrm : 0 ≤ cu_ σ_ - cu_ σ0 ∧ 0 ≤ su_ σ_ - su_ σ0 := ⟨Nat.zero_le _, Nat.zero_le _⟩
  have hl : lv_has ls 5 [(0, .ref (L 87 i0))] := hl
  unfold m_X5_one at hs
  have hL28 : ∀ (n28 : Nat), ∀ (L : ly_T) (σ : st_T) (x1 : Int32) (H : Heap) (locs : List Loc) (cells slots : Nat) (ls : Array Slot), lext L0 σ0 L σ → bk σ0 σ cells slots → (cells ≤ cu_ σ_ - cu_ σ0 ∧ slots ≤ su_ σ_ - su_ σ0) → wv g L σ s H locs → lv_has ls 5 [(0, .ref (L 87 i0)), (1, .int x1)] → (m_X5_one_L28 rec i0 n28) σ x1 = some (o_, σ_) → W p l e (wrA (fr + 11) (lo + 293) σ0 σ_) s m args below meth c H locs cells slots (vx_MQ below (yXr g L0 σ0 91 o_ σ_) (yX g L0 σ0 o_ σ_) args s (cu_ σ_ - cu_ σ0) (su_ σ_ - su_ σ0) (fun q => gz g ≤ q)) (F0 m 28 ls []) := by
    intro n28
    induction n28 with
    | zero => intro L σ x1 H locs cells slots ls hx0 hcs hrm hW hl hs; rw [m_X5_one_L28] at hs; cases hs
    | succ n28 ih28 =>
      have hL84 : ∀ (L : ly_T) (σ : st_T) (x1 : Int32) (t0 : Int32) (H : Heap) (locs : List Loc) (cells slots : Nat) (ls : Array Slot), lext L0 σ0 L σ → bk σ0 σ cells slots → (cells ≤ cu_ σ_ - cu_ σ0 ∧ slots ≤ su_ σ_ - su_ σ0) → wv g L σ s H locs → lv_has ls 5 [(0, .ref (L 87 i0)), (1, .int x1)] → (m_X5_one_L84 rec i0) σ x1 t0 = some (o_, σ_) → W p l e (wrA (fr + 11) (lo + 293) σ0 σ_) s m args below meth c H locs cells slots (vx_MQ below (yXr g L0 σ0 91 o_ σ_) (yX g L0 σ0 o_ σ_) args s (cu_ σ_ - cu_ σ0) (su_ σ_ - su_ σ0) (fun q => gz g ≤ q)) (F0 m 84 ls [.int t0]) := by
        have hL107 : ∀ (L : ly_T) (σ : st_T) (x1 : Int32) (x2 : Int32) (t0 : Int32) (H : Heap) (locs : List Loc) (cells slots : Nat) (ls : Array Slot), lext L0 σ0 L σ → bk σ0 σ cells slots → (cells ≤ cu_ σ_ - cu_ σ0 ∧ slots ≤ su_ σ_ - su_ σ0) → wv g L σ s H locs → lv_has ls 5 [(0, .ref (L 87 i0)), (1, .int x1), (2, .int x2)] → (m_X5_one_L107 rec i0) σ x1 x2 t0 = some (o_, σ_) → W p l e (wrA (fr + 11) (lo + 293) σ0 σ_) s m args below meth c H locs cells slots (vx_MQ below (yXr g L0 σ0 91 o_ σ_) (yX g L0 σ0 o_ σ_) args s (cu_ σ_ - cu_ σ0) (su_ σ_ - su_ σ0) (fun q => gz g ≤ q)) (F0 m 107 ls [.int t0]) := by
          have hL132 : ∀ (L : ly_T) (σ : st_T) (x1 : Int32) (x2 : Int32) (x3 : Int32) (t1 : Int32) (H : Heap) (locs : List Loc) (cells slots : Nat) (ls : Array Slot), lext L0 σ0 L σ → bk σ0 σ cells slots → (cells ≤ cu_ σ_ - cu_ σ0 ∧ slots ≤ su_ σ_ - su_ σ0) → wv g L σ s H locs → lv_has ls 5 [(0, .ref (L 87 i0)), (1, .int x1), (2, .int x2), (3, .int x3)] → (m_X5_one_L132 rec i0) σ x1 x2 x3 t1 = some (o_, σ_) → W p l e (wrA (fr + 11) (lo + 293) σ0 σ_) s m args below meth c H locs cells slots (vx_MQ below (yXr g L0 σ0 91 o_ σ_) (yX g L0 σ0 o_ σ_) args s (cu_ σ_ - cu_ σ0) (su_ σ_ - su_ σ0) (fun q => gz g ≤ q)) (F0 m 132 ls [.int t1, .ref (L 87 i0)]) := by
            have hL170 : ∀ (L : ly_T) (σ : st_T) (x1 : Int32) (x2 : Int32) (it0 : Nat) (H : Heap) (locs : List Loc) (cells slots : Nat) (ls : Array Slot), lext L0 σ0 L σ → bk σ0 σ cells slots → (cells ≤ cu_ σ_ - cu_ σ0 ∧ slots ≤ su_ σ_ - su_ σ0) → wv g L σ s H locs → lv_has ls 5 [(0, .ref (L 87 i0)), (1, .int x1), (2, .int x2)] → (m_X5_one_L170 rec i0) σ x1 x2 it0 = some (o_, σ_) → W p l e (wrA (fr + 11) (lo + 293) σ0 σ_) s m args below meth c H locs cells slots (vx_MQ below (yXr g L0 σ0 91 o_ σ_) (yX g L0 σ0 o_ σ_) args s (cu_ σ_ - cu_ σ0) (su_ σ_ - su_ σ0) (fun q => gz g ≤ q)) (F0 m 170 ls [.ref (L 91 it0)]) := by
              have hL221 : ∀ (L : ly_T) (σ : st_T) (ix4 : Nat) (H : Heap) (locs : List Loc) (cells slots : Nat) (ls : Array Slot), lext L0 σ0 L σ → bk σ0 σ cells slots → (cells ≤ cu_ σ_ - cu_ σ0 ∧ slots ≤ su_ σ_ - su_ σ0) → wv g L σ s H locs → lv_has ls 5 [(0, .ref (L 87 i0)), (4, .ref (L 91 ix4))] → (m_X5_one_L221 rec i0) σ ix4 = some (o_, σ_) → W p l e (wrA (fr + 11) (lo + 293) σ0 σ_) s m args below meth c H locs cells slots (vx_MQ below (yXr g L0 σ0 91 o_ σ_) (yX g L0 σ0 o_ σ_) args s (cu_ σ_ - cu_ σ0) (su_ σ_ - su_ σ0) (fun q => gz g ≤ q)) (F0 m 221 ls []) := by
                intro L σ ix4 H locs cells slots ls hx0 hcs hrm hW hl hs
                unfold m_X5_one_L221 at hs
                refine lv_aload_n hx hb dX5_one_221 rfl (lv_at hl 0 rfl) ?_
                refine lv_bipush (v := 41) hx hb dX5_one_222 (by decide) ?_
                obtain ⟨o3, σ4, hc1, hs⟩ := ww_bn2 hs
                obtain ⟨hkp, hs⟩ := ww_pif hs
                obtain ⟨hc7, hs⟩ := ww_chk hs
                obtain ⟨hx0, hcs⟩ := lx_s hx0 hcs hkp
                rcases o3 with k5 | v6
                · have hs := ww_sL hs
                  have hs := ww_S hs
                  have e1 : o_ = .inl k5 := congrArg Prod.fst hs
                  have e2 : σ_ = bX_ σ4 := congrArg Prod.snd hs
                  subst e1
                  have hrmx := hcs.room (σ1 := bX_ σ4) (σ_ := σ_) (a := 1) (b := 6) rfl rfl (by rw [e2]; exact ⟨Nat.le_refl _, Nat.le_refl _⟩)
                  exact wz_prop (vx_runV (As := [.int (41 : Int32)]) (rest := []) ⟨hx, hb, hml, hown, hts⟩ (c_X5_sign g hgm l L σ i0 (41 : Int32) hst _ _ hc1) (cwV 1 hts (lw_V q1102 q1104 qs26 q118 q1105) rfl rfl rfl hd_X5_sign ⟨(by simp only [wrA, wrm]; omega), (by simp only [wrA, wrm]; omega)⟩) (ww_preV hW (pr_dy hc7 rfl rfl) (obv_0 rfl) rfl) rfl rfl hl.1 rfl (lv_room (Nat.le_of_ble_eq_true rfl)) dX5_one_224 hrmx) no_v hx0 hW hlocks hout rfl e2 hrmx
                · have hs := ww_sR hs
                  refine ww_xv0 (vx_runV (As := [.int (41 : Int32)]) (rest := []) ⟨hx, hb, hml, hown, hts⟩ (c_X5_sign g hgm l L σ i0 (41 : Int32) hst _ _ hc1) (cwV 1 hts (lw_V q1102 q1104 qs26 q118 q1105) rfl rfl rfl hd_X5_sign ⟨(by simp only [wrA, wrm]; omega), (by simp only [wrA, wrm]; omega)⟩) (ww_preV hW (pr_dy hc7 rfl rfl) (obv_0 rfl) rfl) rfl rfl hl.1 rfl (lv_room (Nat.le_of_ble_eq_true rfl)) dX5_one_224 hrm) hW (fun H locs hW => ?_)
                  have hc8 : i0 < gN_ σ4 87 := by rw [hkp.1]; exact hc7
                  refine lv_aload_n hx hb dX5_one_227 rfl (lv_at hl 0 rfl) ?_
                  refine lv_dup hx hb dX5_one_228 rfl ?_
                  refine gf_X5_126 hx hb hts hown hW (pr_dy hc8 rfl rfl) dX5_one_229 ?_
                  refine lv_iconst (v := 1) hx hb dX5_one_232 (by decide) ?_
                  refine lv_isub hx hb dX5_one_233 ?_
                  obtain ⟨σ9, e10, hs⟩ := ww_let hs
                  refine pf_X5_126 hx hb hts hown hW (pr_dy hc8 rfl rfl) dX5_one_234 (fun H locs hW => ?_)
                  have hW : wv g L σ9 s H locs := by rw [e10]; exact hW
                  obtain ⟨hx0, hcs⟩ := lx_s (σ1 := σ9) hx0 hcs (by rw [e10]; exact kp_F)
                  have hc11 : i0 < gN_ σ9 87 := by rw [e10]; exact hc8
                  refine lv_aload hx hb dX5_one_237 (lv_at hl 1 rfl) ?_
                  have hs := ww_S hs
                  exact wz_r hx hb hr hlocks hx0 hcs hW (congrArg Prod.fst hs) (congrArg Prod.snd hs) dX5_one_239
              have hL180 : ∀ (L : ly_T) (σ : st_T) (x1 : Int32) (ix4 : Nat) (H : Heap) (locs : List Loc) (cells slots : Nat) (ls : Array Slot), lext L0 σ0 L σ → bk σ0 σ cells slots → (cells ≤ cu_ σ_ - cu_ σ0 ∧ slots ≤ su_ σ_ - su_ σ0) → wv g L σ s H locs → lv_has ls 5 [(0, .ref (L 87 i0)), (1, .int x1), (4, .ref (L 91 ix4))] → (m_X5_one_L180 rec i0 (m_X5_one_L221 rec i0)) σ x1 ix4 = some (o_, σ_) → W p l e (wrA (fr + 11) (lo + 293) σ0 σ_) s m args below meth c H locs cells slots (vx_MQ below (yXr g L0 σ0 91 o_ σ_) (yX g L0 σ0 o_ σ_) args s (cu_ σ_ - cu_ σ0) (su_ σ_ - su_ σ0) (fun q => gz g ≤ q)) (F0 m 180 ls []) := by
                have hL219 : ∀ (L : ly_T) (σ : st_T) (it0 : Nat) (H : Heap) (locs : List Loc) (cells slots : Nat) (ls : Array Slot), lext L0 σ0 L σ → bk σ0 σ cells slots → (cells ≤ cu_ σ_ - cu_ σ0 ∧ slots ≤ su_ σ_ - su_ σ0) → wv g L σ s H locs → lv_has ls 5 [(0, .ref (L 87 i0))] → (m_X5_one_L219 rec i0 (m_X5_one_L221 rec i0)) σ it0 = some (o_, σ_) → W p l e (wrA (fr + 11) (lo + 293) σ0 σ_) s m args below meth c H locs cells slots (vx_MQ below (yXr g L0 σ0 91 o_ σ_) (yX g L0 σ0 o_ σ_) args s (cu_ σ_ - cu_ σ0) (su_ σ_ - su_ σ0) (fun q => gz g ≤ q)) (F0 m 219 ls [.ref (L 91 it0)]) := by
                  intro L σ it0 H locs cells slots ls hx0 hcs hrm hW hl hs
                  unfold m_X5_one_L219 at hs
                  refine lv_astore (lv' := [(4, .ref (L 91 it0)), (0, .ref (L 87 i0))]) hx hb dX5_one_219 hl (by decide) rfl (fun ls hl => ?_)
                  exact hL221 L σ it0 _ _ _ _ ls hx0 hcs hrm hW (lv_sub hl [1, 0] rfl) hs
                intro L σ x1 ix4 H locs cells slots ls hx0 hcs hrm hW hl hs
                unfold m_X5_one_L180 at hs
                refine lv_aload_n hx hb dX5_one_180 rfl (lv_at hl 0 rfl) ?_
                refine lv_bipush (v := 44) hx hb dX5_one_181 (by decide) ?_
                obtain ⟨o14, σ15, hc12, hs⟩ := ww_bn2 hs
                obtain ⟨hkp, hs⟩ := ww_pif hs
                obtain ⟨hc18, hs⟩ := ww_chk hs
                obtain ⟨hx0, hcs⟩ := lx_s hx0 hcs hkp
                rcases o14 with k16 | v17
                · have hs := ww_sL hs
                  have hs := ww_S hs
                  have e1 : o_ = .inl k16 := congrArg Prod.fst hs
                  have e2 : σ_ = bX_ σ15 := congrArg Prod.snd hs
                  subst e1
                  have hrmx := hcs.room (σ1 := bX_ σ15) (σ_ := σ_) (a := 1) (b := 6) rfl rfl (by rw [e2]; exact ⟨Nat.le_refl _, Nat.le_refl _⟩)
                  exact wz_prop (vx_runV (As := [.int (44 : Int32)]) (rest := []) ⟨hx, hb, hml, hown, hts⟩ (c_X5_sign g hgm l L σ i0 (44 : Int32) hst _ _ hc12) (cwV 1 hts (lw_V q1102 q1104 qs26 q118 q1105) rfl rfl rfl hd_X5_sign ⟨(by simp only [wrA, wrm]; omega), (by simp only [wrA, wrm]; omega)⟩) (ww_preV hW (pr_dy hc18 rfl rfl) (obv_0 rfl) rfl) rfl rfl hl.1 rfl (lv_room (Nat.le_of_ble_eq_true rfl)) dX5_one_183 hrmx) no_v hx0 hW hlocks hout rfl e2 hrmx
                · have hs := ww_sR hs
                  refine ww_xv0 (vx_runV (As := [.int (44 : Int32)]) (rest := []) ⟨hx, hb, hml, hown, hts⟩ (c_X5_sign g hgm l L σ i0 (44 : Int32) hst _ _ hc12) (cwV 1 hts (lw_V q1102 q1104 qs26 q118 q1105) rfl rfl rfl hd_X5_sign ⟨(by simp only [wrA, wrm]; omega), (by simp only [wrA, wrm]; omega)⟩) (ww_preV hW (pr_dy hc18 rfl rfl) (obv_0 rfl) rfl) rfl rfl hl.1 rfl (lv_room (Nat.le_of_ble_eq_true rfl)) dX5_one_183 hrm) hW (fun H locs hW => ?_)
                  have hc19 : i0 < gN_ σ15 87 := by rw [hkp.1]; exact hc18
                  refine lv_iload_n hx hb dX5_one_186 rfl (lv_at hl 1 rfl) ?_
                  refine lv_if_eq (tgt := 206) hx hb dX5_one_187 (by decide) (fun hc20 => ?_) (fun hc20 => ?_)
                  · have hs := ww_T hs hc20
                    have hl : lv_has ls 5 [(0, .ref (L 87 i0)), (4, .ref (L 91 ix4))] := lv_sub hl [0, 2] rfl
                    have hp21 : pr σ15 87 i0 := (pr_dy hc19 rfl rfl)
                    obtain ⟨hc22, hs⟩ := ww_chk hs
                    have hp23 : pr σ15 91 ix4 := (pr_dy hc22 rfl rfl)
                    obtain ⟨σ24, e25, hs⟩ := ww_let hs
                    obtain ⟨hs, hck⟩ := ww_ck2 hs
                    have hrm1 := hcs.room (σ1 := σ24) (a := 1) (b := 2) (by rw [e25]; rfl) (by rw [e25]; rfl) hck
                    refine ww_newo (ci := 17) hx hb hts in_X15 tyX15 tyX15_ok hown (hts _ q1131) (hts _ q1132) (hts _ q141) hW 91 4 (obv_6 (t := 4) rfl (by rw [gP_nO _ _ _ _ _ _ _ (by decide), if_pos ⟨rfl, rfl⟩]; rfl)) rfl df_91_4 (Nat.le_of_ble_eq_true rfl) rfl sole_91 (Or.inl rfl) (Or.inr (Or.inl rfl)) hrm1.1 hrm1.2 dX5_one_206 (fun H L hx1 hW => ?_)
                    rw [← e25] at hx1 hW
                    have hcs := hcs.more (σ1 := σ24) (a := 1) (b := 2) (by rw [e25]; rfl) (by rw [e25]; rfl)
                    have hrm := hrm1
                    have hc26 : i0 < gN_ σ24 87 := Nat.lt_of_lt_of_le hc19 (hx1.2.1 87)
                    have hc27 : ix4 < gN_ σ24 91 := Nat.lt_of_lt_of_le hc22 (hx1.2.1 91)
                    have hc28 : gN_ σ15 91 < gN_ σ24 91 := by rw [e25]; exact nO_lt rfl
                    rw [show ow_ 91 = 91 from rfl]
                    have hl : lv_has ls 5 [(0, .ref (L 87 i0)), (4, .ref (L 91 ix4))] := by rw [hx1.at hp21 (by decide), hx1.at hp23 (by decide)]; exact hl
                    have hx0 := hx0.trans hx1
                    refine lv_dup hx hb dX5_one_209 rfl ?_
                    refine lv_aload hx hb dX5_one_210 (lv_at hl 1 rfl) ?_
                    refine lv_aload_n hx hb dX5_one_212 rfl (lv_at hl 0 rfl) ?_
                    obtain ⟨o31, σ32, hc29, hs⟩ := ww_bn2 hs
                    have hl : lv_has ls 5 [(0, .ref (L 87 i0))] := lv_sub hl [0] rfl
                    have hp35 : pr σ24 87 i0 := (pr_dy hc26 rfl rfl)
                    have hp36 : pr σ24 91 (gN_ σ15 91) := (pr_dy hc28 rfl rfl)
                    have hp37 : pr σ24 91 ix4 := (pr_dy hc27 rfl rfl)
                    obtain ⟨hc38, hs⟩ := ww_chk hs
                    obtain ⟨hs, hck⟩ := ww_ck2 hs
                    have hrm1 := hcs.roomC hc38 hck
                    rcases o31 with k33 | v34
                    · have hs := ww_sL hs
                      have hs := ww_S hs
                      have e1 : o_ = .inl k33 := congrArg Prod.fst hs
                      have e2 : σ_ = σ32 := congrArg Prod.snd hs
                      subst e1
                      exact wz_propA (vx_runV (As := []) (rest := [.ref (L 91 ix4), .ref (L 91 (gN_ σ15 91)), .ref (L 91 (gN_ σ15 91))]) ⟨hx, hb, hml, hown, hts⟩ (hrec L σ24 i0 hst _ _ hc29) (cwV 0 hts (lw_V q1063 q1065 qs22 q118 q1066) rfl rfl rfl hd_X5_sum ⟨(by simp only [wrA, wrm]; omega), (by simp only [wrA, wrm]; omega)⟩) (ww_preV hW (pr_dy hc26 rfl rfl) (obv_0 rfl) rfl) rfl rfl hl.1 rfl (lv_room (Nat.le_of_ble_eq_true rfl)) dX5_one_213 hrm1) noA_r hx0 hW hlocks hout rfl e2 hrm1
                    · have hs := ww_sR hs
                      refine wz_cr (vx_runV (As := []) (rest := [.ref (L 91 ix4), .ref (L 91 (gN_ σ15 91)), .ref (L 91 (gN_ σ15 91))]) ⟨hx, hb, hml, hown, hts⟩ (hrec L σ24 i0 hst _ _ hc29) (cwV 0 hts (lw_V q1063 q1065 qs22 q118 q1066) rfl rfl rfl hd_X5_sum ⟨(by simp only [wrA, wrm]; omega), (by simp only [wrA, wrm]; omega)⟩) (ww_preV hW (pr_dy hc26 rfl rfl) (obv_0 rfl) rfl) rfl rfl hl.1 rfl (lv_room (Nat.le_of_ble_eq_true rfl)) dX5_one_213 hrm1) hW (fun H locs L hx1 hW => ?_)
                      have hc39 : i0 < gN_ σ32 87 := Nat.lt_of_lt_of_le hc26 (hx1.2.1 87)
                      have hc40 : ix4 < gN_ σ32 91 := Nat.lt_of_lt_of_le hc27 (hx1.2.1 91)
                      have hc41 : (gN_ σ15 91) < gN_ σ32 91 := Nat.lt_of_lt_of_le hc28 (hx1.2.1 91)
                      have hcs := hcs.call hc38
                      have hrm := hrm1
                      have hl : lv_has ls 5 [(0, .ref (L 87 i0))] := by rw [hx1.at hp35 (by decide)]; exact hl
                      refine ww_stk (st1 := [.ref (L 91 v34), .ref (L 91 ix4), .ref (L 91 (gN_ σ15 91)), .ref (L 91 (gN_ σ15 91))]) (by rw [hx1.at hp36 (by decide), hx1.at hp37 (by decide)]) ?_
                      have hx0 := hx0.trans hx1
                      obtain ⟨σ44, hc42, hs⟩ := ww_bnd hs
                      have hW := hW.raw
                      obtain ⟨hkp, hs⟩ := ww_pif hs
                      obtain ⟨hx0, hcs⟩ := lx_s hx0 hcs hkp
                      refine ww_cv (va_runI (As := [.ref (L 91 ix4), .ref (L 91 v34)]) (rest := [.ref (L 91 (gN_ σ15 91))]) ⟨hx, hb, hml, hown, hts⟩ (c_X15_init (rw_ g) rfl l L σ32 (gN_ σ15 91) ix4 v34 _ hc42) (cwI 2 hts (lw_meth q1135) rfl rfl rfl (hts _ q141) (hts _ q1133) (hts _ q1134) rfl hd_X15_init.2 ⟨(by simp only [wrA, wrm]; omega), (by simp only [wrA, wrm]; omega)⟩) (ww_preS hW) rfl rfl hl.1 rfl (lv_room (Nat.le_of_ble_eq_true rfl)) dX5_one_216 hrm) hW (fun H locs hW => ?_)
                      have hc45 : i0 < gN_ σ44 87 := by rw [hkp.1]; exact hc39
                      have hc46 : ix4 < gN_ σ44 91 := by rw [hkp.1]; exact hc40
                      have hc47 : (gN_ σ15 91) < gN_ σ44 91 := by rw [hkp.1]; exact hc41
                      obtain ⟨hrdy, hs⟩ := ww_pif hs
                      have hW := hW.ready hrdy
                      exact hL219 L σ44 (gN_ σ15 91) _ _ _ _ ls hx0 hcs hrm hW (lv_sub hl [0] rfl) hs
                  · have hs := ww_F hs hc20
                    have hl : lv_has ls 5 [(0, .ref (L 87 i0)), (4, .ref (L 91 ix4))] := lv_sub hl [0, 2] rfl
                    have hp48 : pr σ15 87 i0 := (pr_dy hc19 rfl rfl)
                    obtain ⟨hc49, hs⟩ := ww_chk hs
                    have hp50 : pr σ15 91 ix4 := (pr_dy hc49 rfl rfl)
                    obtain ⟨σ51, e52, hs⟩ := ww_let hs
                    obtain ⟨hs, hck⟩ := ww_ck2 hs
                    have hrm1 := hcs.room (σ1 := σ51) (a := 1) (b := 2) (by rw [e52]; rfl) (by rw [e52]; rfl) hck
                    refine ww_newo (ci := 16) hx hb hts in_X14 tyX14 tyX14_ok hown (hts _ q1122) (hts _ q1123) (hts _ q140) hW 91 3 (obv_6 (t := 3) rfl (by rw [gP_nO _ _ _ _ _ _ _ (by decide), if_pos ⟨rfl, rfl⟩]; rfl)) rfl df_91_3 (Nat.le_of_ble_eq_true rfl) rfl sole_91 (Or.inl rfl) (Or.inr (Or.inl rfl)) hrm1.1 hrm1.2 dX5_one_190 (fun H L hx1 hW => ?_)
                    rw [← e52] at hx1 hW
                    have hcs := hcs.more (σ1 := σ51) (a := 1) (b := 2) (by rw [e52]; rfl) (by rw [e52]; rfl)
                    have hrm := hrm1
                    have hc53 : i0 < gN_ σ51 87 := Nat.lt_of_lt_of_le hc19 (hx1.2.1 87)
                    have hc54 : ix4 < gN_ σ51 91 := Nat.lt_of_lt_of_le hc49 (hx1.2.1 91)
                    have hc55 : gN_ σ15 91 < gN_ σ51 91 := by rw [e52]; exact nO_lt rfl
                    rw [show ow_ 91 = 91 from rfl]
                    have hl : lv_has ls 5 [(0, .ref (L 87 i0)), (4, .ref (L 91 ix4))] := by rw [hx1.at hp48 (by decide), hx1.at hp50 (by decide)]; exact hl
                    have hx0 := hx0.trans hx1
                    refine lv_dup hx hb dX5_one_193 rfl ?_
                    refine lv_aload hx hb dX5_one_194 (lv_at hl 1 rfl) ?_
                    refine lv_aload_n hx hb dX5_one_196 rfl (lv_at hl 0 rfl) ?_
                    obtain ⟨o58, σ59, hc56, hs⟩ := ww_bn2 hs
                    have hl : lv_has ls 5 [(0, .ref (L 87 i0))] := lv_sub hl [0] rfl
                    have hp62 : pr σ51 87 i0 := (pr_dy hc53 rfl rfl)
                    have hp63 : pr σ51 91 (gN_ σ15 91) := (pr_dy hc55 rfl rfl)
                    have hp64 : pr σ51 91 ix4 := (pr_dy hc54 rfl rfl)
                    obtain ⟨hc65, hs⟩ := ww_chk hs
                    obtain ⟨hs, hck⟩ := ww_ck2 hs
                    have hrm1 := hcs.roomC hc65 hck
                    rcases o58 with k60 | v61
                    · have hs := ww_sL hs
                      have hs := ww_S hs
                      have e1 : o_ = .inl k60 := congrArg Prod.fst hs
                      have e2 : σ_ = σ59 := congrArg Prod.snd hs
                      subst e1
                      exact wz_propA (vx_runV (As := []) (rest := [.ref (L 91 ix4), .ref (L 91 (gN_ σ15 91)), .ref (L 91 (gN_ σ15 91))]) ⟨hx, hb, hml, hown, hts⟩ (hrec L σ51 i0 hst _ _ hc56) (cwV 0 hts (lw_V q1063 q1065 qs22 q118 q1066) rfl rfl rfl hd_X5_sum ⟨(by simp only [wrA, wrm]; omega), (by simp only [wrA, wrm]; omega)⟩) (ww_preV hW (pr_dy hc53 rfl rfl) (obv_0 rfl) rfl) rfl rfl hl.1 rfl (lv_room (Nat.le_of_ble_eq_true rfl)) dX5_one_197 hrm1) noA_r hx0 hW hlocks hout rfl e2 hrm1
                    · have hs := ww_sR hs
                      refine wz_cr (vx_runV (As := []) (rest := [.ref (L 91 ix4), .ref (L 91 (gN_ σ15 91)), .ref (L 91 (gN_ σ15 91))]) ⟨hx, hb, hml, hown, hts⟩ (hrec L σ51 i0 hst _ _ hc56) (cwV 0 hts (lw_V q1063 q1065 qs22 q118 q1066) rfl rfl rfl hd_X5_sum ⟨(by simp only [wrA, wrm]; omega), (by simp only [wrA, wrm]; omega)⟩) (ww_preV hW (pr_dy hc53 rfl rfl) (obv_0 rfl) rfl) rfl rfl hl.1 rfl (lv_room (Nat.le_of_ble_eq_true rfl)) dX5_one_197 hrm1) hW (fun H locs L hx1 hW => ?_)
                      have hc66 : i0 < gN_ σ59 87 := Nat.lt_of_lt_of_le hc53 (hx1.2.1 87)
                      have hc67 : ix4 < gN_ σ59 91 := Nat.lt_of_lt_of_le hc54 (hx1.2.1 91)
                      have hc68 : (gN_ σ15 91) < gN_ σ59 91 := Nat.lt_of_lt_of_le hc55 (hx1.2.1 91)
                      have hcs := hcs.call hc65
                      have hrm := hrm1
                      have hl : lv_has ls 5 [(0, .ref (L 87 i0))] := by rw [hx1.at hp62 (by decide)]; exact hl
                      refine ww_stk (st1 := [.ref (L 91 v61), .ref (L 91 ix4), .ref (L 91 (gN_ σ15 91)), .ref (L 91 (gN_ σ15 91))]) (by rw [hx1.at hp63 (by decide), hx1.at hp64 (by decide)]) ?_
                      have hx0 := hx0.trans hx1
                      obtain ⟨σ71, hc69, hs⟩ := ww_bnd hs
                      have hW := hW.raw
                      obtain ⟨hkp, hs⟩ := ww_pif hs
                      obtain ⟨hx0, hcs⟩ := lx_s hx0 hcs hkp
                      refine ww_cv (va_runI (As := [.ref (L 91 ix4), .ref (L 91 v61)]) (rest := [.ref (L 91 (gN_ σ15 91))]) ⟨hx, hb, hml, hown, hts⟩ (c_X14_init (rw_ g) rfl l L σ59 (gN_ σ15 91) ix4 v61 _ hc69) (cwI 2 hts (lw_meth q1126) rfl rfl rfl (hts _ q140) (hts _ q1124) (hts _ q1125) rfl hd_X14_init.2 ⟨(by simp only [wrA, wrm]; omega), (by simp only [wrA, wrm]; omega)⟩) (ww_preS hW) rfl rfl hl.1 rfl (lv_room (Nat.le_of_ble_eq_true rfl)) dX5_one_200 hrm) hW (fun H locs hW => ?_)
                      have hc72 : i0 < gN_ σ71 87 := by rw [hkp.1]; exact hc66
                      have hc73 : ix4 < gN_ σ71 91 := by rw [hkp.1]; exact hc67
                      have hc74 : (gN_ σ15 91) < gN_ σ71 91 := by rw [hkp.1]; exact hc68
                      obtain ⟨hrdy, hs⟩ := ww_pif hs
                      have hW := hW.ready hrdy
                      refine lv_goto (tgt := 219) hx hb dX5_one_203 (by decide) ?_
                      exact hL219 L σ71 (gN_ σ15 91) _ _ _ _ ls hx0 hcs hrm hW (lv_sub hl [0] rfl) hs
              intro L σ x1 x2 it0 H locs cells slots ls hx0 hcs hrm hW hl hs
              unfold m_X5_one_L170 at hs
              refine lv_astore (lv' := [(4, .ref (L 91 it0)), (0, .ref (L 87 i0)), (1, .int x1), (2, .int x2)]) hx hb dX5_one_170 hl (by decide) rfl (fun ls hl => ?_)
              refine lv_iload_n hx hb dX5_one_172 rfl (lv_at hl 2 rfl) ?_
              refine lv_if_ne (tgt := 180) hx hb dX5_one_173 (by decide) (fun hc75 => ?_) (fun hc75 => ?_)
              · have hs := ww_F hs hc75
                exact hL180 L σ x1 it0 _ _ _ _ ls hx0 hcs hrm hW (lv_sub hl [1, 2, 0] rfl) hs
              · have hs := ww_T hs hc75
                refine lv_iload_n hx hb dX5_one_176 rfl (lv_at hl 3 rfl) ?_
                refine lv_if_eq (tgt := 221) hx hb dX5_one_177 (by decide) (fun hc76 => ?_) (fun hc76 => ?_)
                · have hs := ww_T hs hc76
                  exact hL221 L σ it0 _ _ _ _ ls hx0 hcs hrm hW (lv_sub hl [1, 0] rfl) hs
                · have hs := ww_F hs hc76
                  exact hL180 L σ x1 it0 _ _ _ _ ls hx0 hcs hrm hW (lv_sub hl [1, 2, 0] rfl) hs
            intro L σ x1 x2 x3 t1 H locs cells slots ls hx0 hcs hrm hW hl hs
            unfold m_X5_one_L132 at hs
            obtain ⟨o79, hc77, hs⟩ := ww_bnd hs
            obtain ⟨hc82, hs⟩ := ww_chk hs
            rcases o79 with k80 | v81
            · have hs := ww_sL hs
              have hs := ww_S hs
              have e1 : o_ = .inl k80 := congrArg Prod.fst hs
              have e2 : σ_ = bX_ σ := congrArg Prod.snd hs
              subst e1
              have hrmx := hcs.room (σ1 := bX_ σ) (σ_ := σ_) (a := 1) (b := 6) rfl rfl (by rw [e2]; exact ⟨Nat.le_refl _, Nat.le_refl _⟩)
              exact wz_prop (vx_runV (As := [.int t1]) (rest := []) ⟨hx, hb, hml, hown, hts⟩ (c_X5_right g hgm l L σ i0 t1 hst _ hc77) (cwV 1 hts (lw_V q962 q964 qs16 q118 q965) rfl rfl rfl hd_X5_right ⟨(by simp only [wrA, wrm]; omega), (by simp only [wrA, wrm]; omega)⟩) (ww_preV hW (pr_dy hc82 rfl rfl) (obv_0 rfl) rfl) rfl rfl hl.1 rfl (lv_room (Nat.le_of_ble_eq_true rfl)) dX5_one_132 hrmx) no_v hx0 hW hlocks hout rfl e2 hrmx
            · have hs := ww_sR hs
              refine ww_xv0 (vx_runV (As := [.int t1]) (rest := []) ⟨hx, hb, hml, hown, hts⟩ (c_X5_right g hgm l L σ i0 t1 hst _ hc77) (cwV 1 hts (lw_V q962 q964 qs16 q118 q965) rfl rfl rfl hd_X5_right ⟨(by simp only [wrA, wrm]; omega), (by simp only [wrA, wrm]; omega)⟩) (ww_preV hW (pr_dy hc82 rfl rfl) (obv_0 rfl) rfl) rfl rfl hl.1 rfl (lv_room (Nat.le_of_ble_eq_true rfl)) dX5_one_132 hrm) hW (fun H locs hW => ?_)
              refine lv_aload_n hx hb dX5_one_135 rfl (lv_at hl 0 rfl) ?_
              refine lv_dup hx hb dX5_one_136 rfl ?_
              refine gf_X5_126 hx hb hts hown hW (pr_dy hc82 rfl rfl) dX5_one_137 ?_
              refine lv_iconst (v := 1) hx hb dX5_one_140 (by decide) ?_
              refine lv_iadd hx hb dX5_one_141 ?_
              obtain ⟨σ83, e84, hs⟩ := ww_let hs
              refine pf_X5_126 hx hb hts hown hW (pr_dy hc82 rfl rfl) dX5_one_142 (fun H locs hW => ?_)
              have hW : wv g L σ83 s H locs := by rw [e84]; exact hW
              obtain ⟨hx0, hcs⟩ := lx_s (σ1 := σ83) hx0 hcs (by rw [e84]; exact kp_F)
              have hc85 : i0 < gN_ σ83 87 := by rw [e84]; exact hc82
              refine lv_aload_n hx hb dX5_one_145 rfl (lv_at hl 0 rfl) ?_
              refine lv_dup hx hb dX5_one_146 rfl ?_
              refine gf_X5_111 hx hb hts hown hW (pr_dy hc85 rfl rfl) dX5_one_147 ?_
              refine lv_iconst (v := 1) hx hb dX5_one_150 (by decide) ?_
              refine lv_iadd hx hb dX5_one_151 ?_
              obtain ⟨σ86, e87, hs⟩ := ww_let hs
              refine pf_X5_111 hx hb hts hown hW (pr_dy hc85 rfl rfl) dX5_one_152 (fun H locs hW => ?_)
              have hW : wv g L σ86 s H locs := by rw [e87]; exact hW
              obtain ⟨hx0, hcs⟩ := lx_s (σ1 := σ86) hx0 hcs (by rw [e87]; exact kp_F)
              have hc88 : i0 < gN_ σ86 87 := by rw [e87]; exact hc85
              refine lv_iload_n hx hb dX5_one_155 rfl (lv_at hl 3 rfl) ?_
              refine lv_if_eq (tgt := 166) hx hb dX5_one_156 (by decide) (fun hc89 => ?_) (fun hc89 => ?_)
              · have hs := ww_T hs hc89
                refine lv_aload_n hx hb dX5_one_166 rfl (lv_at hl 0 rfl) ?_
                obtain ⟨o92, σ93, hc90, hs⟩ := ww_bn2 hs
                have hl : lv_has ls 5 [(0, .ref (L 87 i0)), (1, .int x1), (2, .int x2)] := lv_sub hl [0, 1, 2] rfl
                have hp96 : pr σ86 87 i0 := (pr_dy hc88 rfl rfl)
                obtain ⟨hc97, hs⟩ := ww_chk hs
                obtain ⟨hs, hck⟩ := ww_ck2 hs
                have hrm1 := hcs.roomC hc97 hck
                rcases o92 with k94 | v95
                · have hs := ww_sL hs
                  have hs := ww_S hs
                  have e1 : o_ = .inl k94 := congrArg Prod.fst hs
                  have e2 : σ_ = σ93 := congrArg Prod.snd hs
                  subst e1
                  exact wz_propA (vx_runV (As := []) (rest := []) ⟨hx, hb, hml, hown, hts⟩ (hrec L σ86 i0 hst _ _ hc90) (cwV 0 hts (lw_V q1063 q1065 qs22 q118 q1066) rfl rfl rfl hd_X5_sum ⟨(by simp only [wrA, wrm]; omega), (by simp only [wrA, wrm]; omega)⟩) (ww_preV hW (pr_dy hc88 rfl rfl) (obv_0 rfl) rfl) rfl rfl hl.1 rfl (lv_room (Nat.le_of_ble_eq_true rfl)) dX5_one_167 hrm1) noA_r hx0 hW hlocks hout rfl e2 hrm1
                · have hs := ww_sR hs
                  refine wz_cr (vx_runV (As := []) (rest := []) ⟨hx, hb, hml, hown, hts⟩ (hrec L σ86 i0 hst _ _ hc90) (cwV 0 hts (lw_V q1063 q1065 qs22 q118 q1066) rfl rfl rfl hd_X5_sum ⟨(by simp only [wrA, wrm]; omega), (by simp only [wrA, wrm]; omega)⟩) (ww_preV hW (pr_dy hc88 rfl rfl) (obv_0 rfl) rfl) rfl rfl hl.1 rfl (lv_room (Nat.le_of_ble_eq_true rfl)) dX5_one_167 hrm1) hW (fun H locs L hx1 hW => ?_)
                  have hc98 : i0 < gN_ σ93 87 := Nat.lt_of_lt_of_le hc88 (hx1.2.1 87)
                  have hcs := hcs.call hc97
                  have hrm := hrm1
                  have hl : lv_has ls 5 [(0, .ref (L 87 i0)), (1, .int x1), (2, .int x2)] := by rw [hx1.at hp96 (by decide)]; exact hl
                  have hx0 := hx0.trans hx1
                  exact hL170 L σ93 x1 x2 v95 _ _ _ _ ls hx0 hcs hrm hW (lv_sub hl [0, 1, 2] rfl) hs
              · have hs := ww_F hs hc89
                refine lv_aload_n hx hb dX5_one_159 rfl (lv_at hl 0 rfl) ?_
                obtain ⟨o101, σ102, hc99, hs⟩ := ww_bn2 hs
                have hl : lv_has ls 5 [(0, .ref (L 87 i0)), (1, .int x1), (2, .int x2)] := lv_sub hl [0, 1, 2] rfl
                have hp105 : pr σ86 87 i0 := (pr_dy hc88 rfl rfl)
                obtain ⟨hc106, hs⟩ := ww_chk hs
                obtain ⟨hs, hck⟩ := ww_ck2 hs
                have hrm1 := hcs.roomC hc106 hck
                rcases o101 with k103 | v104
                · have hs := ww_sL hs
                  have hs := ww_S hs
                  have e1 : o_ = .inl k103 := congrArg Prod.fst hs
                  have e2 : σ_ = σ102 := congrArg Prod.snd hs
                  subst e1
                  exact wz_propA (vx_runV (As := []) (rest := []) ⟨hx, hb, hml, hown, hts⟩ (c_X5_choice g hgm l L rec fr lo hrec σ86 i0 hst _ _ hc99) (cwV 0 hts (lw_V q1086 q1088 qs25 q118 q1089) rfl rfl rfl hd_X5_choice ⟨(by simp only [wrA, wrm]; omega), (by simp only [wrA, wrm]; omega)⟩) (ww_preV hW (pr_dy hc88 rfl rfl) (obv_0 rfl) rfl) rfl rfl hl.1 rfl (lv_room (Nat.le_of_ble_eq_true rfl)) dX5_one_160 hrm1) noA_r hx0 hW hlocks hout rfl e2 hrm1
                · have hs := ww_sR hs
                  refine wz_cr (vx_runV (As := []) (rest := []) ⟨hx, hb, hml, hown, hts⟩ (c_X5_choice g hgm l L rec fr lo hrec σ86 i0 hst _ _ hc99) (cwV 0 hts (lw_V q1086 q1088 qs25 q118 q1089) rfl rfl rfl hd_X5_choice ⟨(by simp only [wrA, wrm]; omega), (by simp only [wrA, wrm]; omega)⟩) (ww_preV hW (pr_dy hc88 rfl rfl) (obv_0 rfl) rfl) rfl rfl hl.1 rfl (lv_room (Nat.le_of_ble_eq_true rfl)) dX5_one_160 hrm1) hW (fun H locs L hx1 hW => ?_)
                  have hc107 : i0 < gN_ σ102 87 := Nat.lt_of_lt_of_le hc88 (hx1.2.1 87)
                  have hcs := hcs.call hc106
                  have hrm := hrm1
                  have hl : lv_has ls 5 [(0, .ref (L 87 i0)), (1, .int x1), (2, .int x2)] := by rw [hx1.at hp105 (by decide)]; exact hl
                  have hx0 := hx0.trans hx1
                  refine lv_goto (tgt := 170) hx hb dX5_one_163 (by decide) ?_
                  exact hL170 L σ102 x1 x2 v104 _ _ _ _ ls hx0 hcs hrm hW (lv_sub hl [0, 1, 2] rfl) hs
          have hL131 : ∀ (L : ly_T) (σ : st_T) (x1 : Int32) (x2 : Int32) (x3 : Int32) (H : Heap) (locs : List Loc) (cells slots : Nat) (ls : Array Slot), lext L0 σ0 L σ → bk σ0 σ cells slots → (cells ≤ cu_ σ_ - cu_ σ0 ∧ slots ≤ su_ σ_ - su_ σ0) → wv g L σ s H locs → lv_has ls 5 [(0, .ref (L 87 i0)), (1, .int x1), (2, .int x2), (3, .int x3)] → (m_X5_one_L131 rec i0 (m_X5_one_L132 rec i0)) σ x1 x2 x3 = some (o_, σ_) → W p l e (wrA (fr + 11) (lo + 293) σ0 σ_) s m args below meth c H locs cells slots (vx_MQ below (yXr g L0 σ0 91 o_ σ_) (yX g L0 σ0 o_ σ_) args s (cu_ σ_ - cu_ σ0) (su_ σ_ - su_ σ0) (fun q => gz g ≤ q)) (F0 m 131 ls [.ref (L 87 i0)]) := by
            intro L σ x1 x2 x3 H locs cells slots ls hx0 hcs hrm hW hl hs
            unfold m_X5_one_L131 at hs
            refine lv_iconst (v := 0) hx hb dX5_one_131 (by decide) ?_
            exact hL132 L σ x1 x2 x3 (0 : Int32) _ _ _ _ ls hx0 hcs hrm hW (lv_sub hl [0, 1, 2, 3] rfl) hs
          intro L σ x1 x2 t0 H locs cells slots ls hx0 hcs hrm hW hl hs
          unfold m_X5_one_L107 at hs
          refine lv_istore_n (lv' := [(3, .int t0), (0, .ref (L 87 i0)), (1, .int x1), (2, .int x2)]) hx hb dX5_one_107 rfl hl (by decide) rfl (fun ls hl => ?_)
          refine lv_aload_n hx hb dX5_one_108 rfl (lv_at hl 1 rfl) ?_
          refine lv_aload_n hx hb dX5_one_109 rfl (lv_at hl 1 rfl) ?_
          obtain ⟨v110, σ111, hc108, hs⟩ := ww_bn2 hs
          obtain ⟨hkp, hs⟩ := ww_pif hs
          obtain ⟨hc112, hs⟩ := ww_chk hs
          obtain ⟨hx0, hcs⟩ := lx_s hx0 hcs hkp
          refine ww_ci (va_runV (As := []) (rest := [.ref (L 87 i0)]) ⟨hx, hb, hml, hown, hts⟩ (c_X5_now g hgm l L σ i0 _ _ hc108) (cwV 0 hts (lw_V q958 q960 qs15 q118 q961) rfl rfl rfl hd_X5_now ⟨(by simp only [wrA, wrm]; omega), (by simp only [wrA, wrm]; omega)⟩) (ww_preV hW (pr_dy hc112 rfl rfl) (obv_0 rfl) rfl) rfl rfl hl.1 rfl (lv_room (Nat.le_of_ble_eq_true rfl)) dX5_one_110 hrm) hW (fun H locs hW => ?_)
          have hc113 : i0 < gN_ σ111 87 := by rw [hkp.1]; exact hc112
          refine lv_bipush (v := 40) hx hb dX5_one_113 (by decide) ?_
          refine lv_icmp_ne (tgt := 131) hx hb dX5_one_115 (by decide) (fun hc114 => ?_) (fun hc114 => ?_)
          · have hs := ww_F hs hc114
            exact hL131 L σ111 x1 x2 t0 _ _ _ _ ls hx0 hcs hrm hW (lv_sub hl [1, 2, 3, 0] rfl) hs
          · have hs := ww_T hs hc114
            refine lv_aload_n hx hb dX5_one_118 rfl (lv_at hl 1 rfl) ?_
            refine gf_X5_126 hx hb hts hown hW (pr_dy hc113 rfl rfl) dX5_one_119 ?_
            refine lv_bipush (v := 8) hx hb dX5_one_122 (by decide) ?_
            refine lv_icmp_ge (tgt := 131) hx hb dX5_one_124 (by decide) (fun hc115 => ?_) (fun hc115 => ?_)
            · have hs := ww_T hs hc115
              exact hL131 L σ111 x1 x2 t0 _ _ _ _ ls hx0 hcs hrm hW (lv_sub hl [1, 2, 3, 0] rfl) hs
            · have hs := ww_F hs hc115
              refine lv_iconst (v := 1) hx hb dX5_one_127 (by decide) ?_
              refine lv_goto (tgt := 132) hx hb dX5_one_128 (by decide) ?_
              exact hL132 L σ111 x1 x2 t0 (1 : Int32) _ _ _ _ ls hx0 hcs hrm hW (lv_sub hl [1, 2, 3, 0] rfl) hs
        have hL106 : ∀ (L : ly_T) (σ : st_T) (x1 : Int32) (x2 : Int32) (H : Heap) (locs : List Loc) (cells slots : Nat) (ls : Array Slot), lext L0 σ0 L σ → bk σ0 σ cells slots → (cells ≤ cu_ σ_ - cu_ σ0 ∧ slots ≤ su_ σ_ - su_ σ0) → wv g L σ s H locs → lv_has ls 5 [(0, .ref (L 87 i0)), (1, .int x1), (2, .int x2)] → (m_X5_one_L106 rec i0 (m_X5_one_L107 rec i0)) σ x1 x2 = some (o_, σ_) → W p l e (wrA (fr + 11) (lo + 293) σ0 σ_) s m args below meth c H locs cells slots (vx_MQ below (yXr g L0 σ0 91 o_ σ_) (yX g L0 σ0 o_ σ_) args s (cu_ σ_ - cu_ σ0) (su_ σ_ - su_ σ0) (fun q => gz g ≤ q)) (F0 m 106 ls []) := by
          intro L σ x1 x2 H locs cells slots ls hx0 hcs hrm hW hl hs
          unfold m_X5_one_L106 at hs
          refine lv_iconst (v := 0) hx hb dX5_one_106 (by decide) ?_
          exact hL107 L σ x1 x2 (0 : Int32) _ _ _ _ ls hx0 hcs hrm hW (lv_sub hl [0, 1, 2] rfl) hs
        intro L σ x1 t0 H locs cells slots ls hx0 hcs hrm hW hl hs
        unfold m_X5_one_L84 at hs
        refine lv_istore_n (lv' := [(2, .int t0), (0, .ref (L 87 i0)), (1, .int x1)]) hx hb dX5_one_84 rfl hl (by decide) rfl (fun ls hl => ?_)
        refine lv_iload_n hx hb dX5_one_85 rfl (lv_at hl 2 rfl) ?_
        refine lv_if_ne (tgt := 106) hx hb dX5_one_86 (by decide) (fun hc116 => ?_) (fun hc116 => ?_)
        · have hs := ww_F hs hc116
          exact hL106 L σ x1 t0 _ _ _ _ ls hx0 hcs hrm hW (lv_sub hl [1, 2, 0] rfl) hs
        · have hs := ww_T hs hc116
          refine lv_iload_n hx hb dX5_one_89 rfl (lv_at hl 0 rfl) ?_
          refine lv_if_ne (tgt := 106) hx hb dX5_one_90 (by decide) (fun hc117 => ?_) (fun hc117 => ?_)
          · have hs := ww_F hs hc117
            exact hL106 L σ x1 t0 _ _ _ _ ls hx0 hcs hrm hW (lv_sub hl [1, 2, 0] rfl) hs
          · have hs := ww_T hs hc117
            refine lv_aload_n hx hb dX5_one_93 rfl (lv_at hl 1 rfl) ?_
            refine va_ldcS hx hb hown (hW.1.2.2.2.1 17 (Nat.le_of_ble_eq_true rfl)) dX5_one_94 ?_
            obtain ⟨v120, σ121, hc118, hs⟩ := ww_bn2 hs
            obtain ⟨hkp, hs⟩ := ww_pif hs
            obtain ⟨hc122, hs⟩ := ww_chk hs
            obtain ⟨hx0, hcs⟩ := lx_s hx0 hcs hkp
            refine ww_ci (va_runV (As := [.ref (gk g 17)]) (rest := []) ⟨hx, hb, hml, hown, hts⟩ (c_X5_eats g hgm l L σ i0 17 _ _ hc118) (cwV 1 hts (lw_V q986 q988 qs18 q118 q989) rfl rfl rfl hd_X5_eats ⟨(by simp only [wrA, wrm]; omega), (by simp only [wrA, wrm]; omega)⟩) (ww_preV hW (pr_dy hc122 rfl rfl) (obv_0 rfl) rfl) rfl rfl hl.1 rfl (lv_room (Nat.le_of_ble_eq_true rfl)) dX5_one_96 hrm) hW (fun H locs hW => ?_)
            have hc123 : i0 < gN_ σ121 87 := by rw [hkp.1]; exact hc122
            refine lv_if_eq (tgt := 106) hx hb dX5_one_99 (by decide) (fun hc124 => ?_) (fun hc124 => ?_)
            · have hs := ww_T hs hc124
              exact hL106 L σ121 x1 t0 _ _ _ _ ls hx0 hcs hrm hW (lv_sub hl [1, 2, 0] rfl) hs
            · have hs := ww_F hs hc124
              refine lv_iconst (v := 1) hx hb dX5_one_102 (by decide) ?_
              refine lv_goto (tgt := 107) hx hb dX5_one_103 (by decide) ?_
              exact hL107 L σ121 x1 t0 (1 : Int32) _ _ _ _ ls hx0 hcs hrm hW (lv_sub hl [1, 2, 0] rfl) hs
      have hL83 : ∀ (L : ly_T) (σ : st_T) (x1 : Int32) (H : Heap) (locs : List Loc) (cells slots : Nat) (ls : Array Slot), lext L0 σ0 L σ → bk σ0 σ cells slots → (cells ≤ cu_ σ_ - cu_ σ0 ∧ slots ≤ su_ σ_ - su_ σ0) → wv g L σ s H locs → lv_has ls 5 [(0, .ref (L 87 i0)), (1, .int x1)] → (m_X5_one_L83 rec i0 (m_X5_one_L84 rec i0)) σ x1 = some (o_, σ_) → W p l e (wrA (fr + 11) (lo + 293) σ0 σ_) s m args below meth c H locs cells slots (vx_MQ below (yXr g L0 σ0 91 o_ σ_) (yX g L0 σ0 o_ σ_) args s (cu_ σ_ - cu_ σ0) (su_ σ_ - su_ σ0) (fun q => gz g ≤ q)) (F0 m 83 ls []) := by
        intro L σ x1 H locs cells slots ls hx0 hcs hrm hW hl hs
        unfold m_X5_one_L83 at hs
        refine lv_iconst (v := 0) hx hb dX5_one_83 (by decide) ?_
        exact hL84 L σ x1 (0 : Int32) _ _ _ _ ls hx0 hcs hrm hW (lv_sub hl [0, 1] rfl) hs
      intro L σ x1 H locs cells slots ls hx0 hcs hrm hW hl hs
      rw [m_X5_one_L28] at hs
      refine lv_iload_n hx hb dX5_one_28 rfl (lv_at hl 1 rfl) ?_
      refine lv_iconst (v := 5) hx hb dX5_one_29 (by decide) ?_
      refine lv_icmp_ge (tgt := 59) hx hb dX5_one_30 (by decide) (fun hc125 => ?_) (fun hc125 => ?_)
      · have hs := ww_T hs hc125
        refine lv_aload_n hx hb dX5_one_59 rfl (lv_at hl 0 rfl) ?_
        refine va_ldcS hx hb hown (hW.1.2.2.2.1 15 (Nat.le_of_ble_eq_true rfl)) dX5_one_60 ?_
        obtain ⟨v128, σ129, hc126, hs⟩ := ww_bn2 hs
        obtain ⟨hkp, hs⟩ := ww_pif hs
        obtain ⟨hc130, hs⟩ := ww_chk hs
        obtain ⟨hx0, hcs⟩ := lx_s hx0 hcs hkp
        refine ww_ci (va_runV (As := [.ref (gk g 15)]) (rest := []) ⟨hx, hb, hml, hown, hts⟩ (c_X5_eats g hgm l L σ i0 15 _ _ hc126) (cwV 1 hts (lw_V q986 q988 qs18 q118 q989) rfl rfl rfl hd_X5_eats ⟨(by simp only [wrA, wrm]; omega), (by simp only [wrA, wrm]; omega)⟩) (ww_preV hW (pr_dy hc130 rfl rfl) (obv_0 rfl) rfl) rfl rfl hl.1 rfl (lv_room (Nat.le_of_ble_eq_true rfl)) dX5_one_62 hrm) hW (fun H locs hW => ?_)
        have hc131 : i0 < gN_ σ129 87 := by rw [hkp.1]; exact hc130
        refine lv_istore_n (lv' := [(1, .int v128), (0, .ref (L 87 i0))]) hx hb dX5_one_65 rfl hl (by decide) rfl (fun ls hl => ?_)
        refine lv_iload_n hx hb dX5_one_66 rfl (lv_at hl 0 rfl) ?_
        refine lv_if_ne (tgt := 83) hx hb dX5_one_67 (by decide) (fun hc132 => ?_) (fun hc132 => ?_)
        · have hs := ww_F hs hc132
          exact hL83 L σ129 v128 _ _ _ _ ls hx0 hcs hrm hW (lv_sub hl [1, 0] rfl) hs
        · have hs := ww_T hs hc132
          refine lv_aload_n hx hb dX5_one_70 rfl (lv_at hl 1 rfl) ?_
          refine va_ldcS hx hb hown (hW.1.2.2.2.1 16 (Nat.le_of_ble_eq_true rfl)) dX5_one_71 ?_
          obtain ⟨v135, σ136, hc133, hs⟩ := ww_bn2 hs
          obtain ⟨hkp, hs⟩ := ww_pif hs
          obtain ⟨hx0, hcs⟩ := lx_s hx0 hcs hkp
          refine ww_ci (va_runV (As := [.ref (gk g 16)]) (rest := []) ⟨hx, hb, hml, hown, hts⟩ (c_X5_eats g hgm l L σ129 i0 16 _ _ hc133) (cwV 1 hts (lw_V q986 q988 qs18 q118 q989) rfl rfl rfl hd_X5_eats ⟨(by simp only [wrA, wrm]; omega), (by simp only [wrA, wrm]; omega)⟩) (ww_preV hW (pr_dy hc131 rfl rfl) (obv_0 rfl) rfl) rfl rfl hl.1 rfl (lv_room (Nat.le_of_ble_eq_true rfl)) dX5_one_73 hrm) hW (fun H locs hW => ?_)
          have hc137 : i0 < gN_ σ136 87 := by rw [hkp.1]; exact hc131
          refine lv_if_eq (tgt := 83) hx hb dX5_one_76 (by decide) (fun hc138 => ?_) (fun hc138 => ?_)
          · have hs := ww_T hs hc138
            exact hL83 L σ136 v128 _ _ _ _ ls hx0 hcs hrm hW (lv_sub hl [1, 0] rfl) hs
          · have hs := ww_F hs hc138
            refine lv_iconst (v := 1) hx hb dX5_one_79 (by decide) ?_
            refine lv_goto (tgt := 84) hx hb dX5_one_80 (by decide) ?_
            exact hL84 L σ136 v128 (1 : Int32) _ _ _ _ ls hx0 hcs hrm hW (lv_sub hl [1, 0] rfl) hs
      · have hs := ww_F hs hc125
        refine lv_aload_n hx hb dX5_one_33 rfl (lv_at hl 0 rfl) ?_
        refine lv_iload_n hx hb dX5_one_34 rfl (lv_at hl 1 rfl) ?_
        obtain ⟨v141, hc139, hs⟩ := ww_bnd hs
        refine ww_cr (va_runSN (As := [.int x1]) (rest := [.ref (L 87 i0)]) ⟨hx, hb, hml, hown, hts⟩ (c_X1_toldName g hgm l L σ x1 _ hc139) ⟨va_cnB 1 hts (lw_meth q1077) rfl rfl rfl (hW.nw 48 rfl) (hts _ q111) hd_X1_toldName.2 ⟨(by simp only [wrA, wrm]; omega), (by simp only [wrA, wrm]; omega)⟩, hts _ q1076, trivial⟩ (ww_preS hW) rfl rfl hl.1 rfl (lv_room (Nat.le_of_ble_eq_true rfl)) dX5_one_35 hrm) hW (fun H locs hW => ?_)
        obtain ⟨v144, σ145, hc142, hs⟩ := ww_bn2 hs
        obtain ⟨hkp, hs⟩ := ww_pif hs
        obtain ⟨hc146, hs⟩ := ww_chk hs
        obtain ⟨hx0, hcs⟩ := lx_s hx0 hcs hkp
        refine ww_ci (va_runV (As := [.ref (gk g v141)]) (rest := []) ⟨hx, hb, hml, hown, hts⟩ (c_X5_eats g hgm l L σ i0 v141 _ _ hc142) (cwV 1 hts (lw_V q986 q988 qs18 q118 q989) rfl rfl rfl hd_X5_eats ⟨(by simp only [wrA, wrm]; omega), (by simp only [wrA, wrm]; omega)⟩) (ww_preV hW (pr_dy hc146 rfl rfl) (obv_0 rfl) rfl) rfl rfl hl.1 rfl (lv_room (Nat.le_of_ble_eq_true rfl)) dX5_one_38 hrm) hW (fun H locs hW => ?_)
        have hc147 : i0 < gN_ σ145 87 := by rw [hkp.1]; exact hc146
        refine lv_if_eq (tgt := 53) hx hb dX5_one_41 (by decide) (fun hc148 => ?_) (fun hc148 => ?_)
        · have hs := ww_T hs hc148
          refine lv_iinc (v := (x1 + (1 : Int32))) (lv' := [(1, .int (x1 + (1 : Int32))), (0, .ref (L 87 i0))]) hx hb dX5_one_53 hl (k := 1) rfl rfl (by decide) rfl (fun ls hl => ?_)
          refine lv_goto (tgt := 28) hx hb dX5_one_56 (by decide) ?_
          exact ih28 L σ145 (x1 + (1 : Int32)) _ _ _ _ ls hx0 hcs hrm hW (lv_sub hl [1, 0] rfl) hs
        · have hs := ww_F hs hc148
          have hl : lv_has ls 5 [(1, .int x1)] := lv_sub hl [1] rfl
          obtain ⟨σ149, e150, hs⟩ := ww_let hs
          obtain ⟨hs, hck⟩ := ww_ck2 hs
          have hrm1 := hcs.room (σ1 := σ149) (a := 1) (b := 1) (by rw [e150]; rfl) (by rw [e150]; rfl) hck
          refine ww_newo (ci := 14) hx hb hts in_X8 tyX8 tyX8_ok hown (hts _ q277) (hts _ q278) (hts _ q121) hW 91 1 (obv_6 (t := 1) rfl (by rw [gP_nO _ _ _ _ _ _ _ (by decide), if_pos ⟨rfl, rfl⟩]; rfl)) rfl df_91_1 (Nat.le_of_ble_eq_true rfl) rfl sole_91 (Or.inl rfl) (Or.inr (Or.inl rfl)) hrm1.1 hrm1.2 dX5_one_44 (fun H L hx1 hW => ?_)
          rw [← e150] at hx1 hW
          have hcs := hcs.more (σ1 := σ149) (a := 1) (b := 1) (by rw [e150]; rfl) (by rw [e150]; rfl)
          have hrm := hrm1
          have hc151 : i0 < gN_ σ149 87 := Nat.lt_of_lt_of_le hc147 (hx1.2.1 87)
          have hc152 : gN_ σ145 91 < gN_ σ149 91 := by rw [e150]; exact nO_lt rfl
          rw [show ow_ 91 = 91 from rfl]
          have hx0 := hx0.trans hx1
          refine lv_dup hx hb dX5_one_47 rfl ?_
          refine lv_iload_n hx hb dX5_one_48 rfl (lv_at hl 0 rfl) ?_
          obtain ⟨σ155, hc153, hs⟩ := ww_bnd hs
          have hW := hW.raw
          obtain ⟨hkp, hs⟩ := ww_pif hs
          obtain ⟨hx0, hcs⟩ := lx_s hx0 hcs hkp
          refine ww_cv (va_runI (As := [.int x1]) (rest := [.ref (L 91 (gN_ σ145 91))]) ⟨hx, hb, hml, hown, hts⟩ (c_X8_init (rw_ g) rfl l L σ149 (gN_ σ145 91) x1 _ hc153) (cwI 1 hts (lw_meth q281) rfl rfl rfl (hts _ q121) (hts _ q279) (hts _ q280) rfl hd_X8_init.2 ⟨(by simp only [wrA, wrm]; omega), (by simp only [wrA, wrm]; omega)⟩) (ww_preS hW) rfl rfl hl.1 rfl (lv_room (Nat.le_of_ble_eq_true rfl)) dX5_one_49 hrm) hW (fun H locs hW => ?_)
          have hc156 : i0 < gN_ σ155 87 := by rw [hkp.1]; exact hc151
          have hc157 : (gN_ σ145 91) < gN_ σ155 91 := by rw [hkp.1]; exact hc152
          obtain ⟨hrdy, hs⟩ := ww_pif hs
          have hW := hW.ready hrdy
          have hs := ww_S hs
          exact wz_r hx hb hr hlocks hx0 hcs hW (congrArg Prod.fst hs) (congrArg Prod.snd hs) dX5_one_52
  refine lv_aload_n hx hb dX5_one_0 rfl (lv_at hl 0 rfl) ?_
  obtain ⟨v160, σ161, hc158, hs⟩ := ww_bn2 hs
  obtain ⟨hkp, hs⟩ := ww_pif hs
  obtain ⟨hc162, hs⟩ := ww_chk hs
  obtain ⟨hx0, hcs⟩ := lx_s hx0 hcs hkp
  refine ww_ci (va_runV (As := []) (rest := []) ⟨hx, hb, hml, hown, hts⟩ (c_X5_now g hgm l L σ i0 _ _ hc158) (cwV 0 hts (lw_V q958 q960 qs15 q118 q961) rfl rfl rfl hd_X5_now ⟨(by simp only [wrA, wrm]; omega), (by simp only [wrA, wrm]; omega)⟩) (ww_preV hW (pr_dy hc162 rfl rfl) (obv_0 rfl) rfl) rfl rfl hl.1 rfl (lv_room (Nat.le_of_ble_eq_true rfl)) dX5_one_1 hrm) hW (fun H locs hW => ?_)
  have hc163 : i0 < gN_ σ161 87 := by rw [hkp.1]; exact hc162
  obtain ⟨v166, hc164, hs⟩ := ww_bnd hs
  refine ww_ci (va_runSN (As := [.int v160]) (rest := []) ⟨hx, hb, hml, hown, hts⟩ (c_X1_isDigit g hgm l L σ161 v160 _ hc164) ⟨va_cnB 1 hts (lw_meth q1057) rfl rfl rfl (hW.nw 47 rfl) (hts _ q111) hd_X1_isDigit.2 ⟨(by simp only [wrA, wrm]; omega), (by simp only [wrA, wrm]; omega)⟩, hts _ q1056, trivial⟩ (ww_preS hW) rfl rfl hl.1 rfl (lv_room (Nat.le_of_ble_eq_true rfl)) dX5_one_4 hrm) hW (fun H locs hW => ?_)
  refine lv_if_eq (tgt := 26) hx hb dX5_one_7 (by decide) (fun hc167 => ?_) (fun hc167 => ?_)
  · have hs := ww_T hs hc167
    refine lv_iconst (v := 0) hx hb dX5_one_26 (by decide) ?_
    refine lv_istore_n (lv' := [(1, .int (0 : Int32)), (0, .ref (L 87 i0))]) hx hb dX5_one_27 rfl hl (by decide) rfl (fun ls hl => ?_)
    exact hL28 fu_ L σ161 (0 : Int32) _ _ _ _ ls hx0 hcs hrm hW (lv_sub hl [1, 0] rfl) hs
  · have hs := ww_F hs hc167
    have hp168 : pr σ161 87 i0 := (pr_dy hc163 rfl rfl)
    obtain ⟨σ169, e170, hs⟩ := ww_let hs
    obtain ⟨hs, hck⟩ := ww_ck2 hs
    have hrm1 := hcs.room (σ1 := σ169) (a := 1) (b := 1) (by rw [e170]; rfl) (by rw [e170]; rfl) hck
    refine ww_newo (ci := 13) hx hb hts in_X9 tyX9 tyX9_ok hown (hts _ q287) (hts _ q288) (hts _ q122) hW 91 0 (obv_6 (t := 0) rfl (by rw [gP_nO _ _ _ _ _ _ _ (by decide), if_pos ⟨rfl, rfl⟩]; rfl)) rfl df_91_0 (Nat.le_of_ble_eq_true rfl) rfl sole_91 (Or.inl rfl) (Or.inr (Or.inl rfl)) hrm1.1 hrm1.2 dX5_one_10 (fun H L hx1 hW => ?_)
    rw [← e170] at hx1 hW
    have hcs := hcs.more (σ1 := σ169) (a := 1) (b := 1) (by rw [e170]; rfl) (by rw [e170]; rfl)
    have hrm := hrm1
    have hc171 : i0 < gN_ σ169 87 := Nat.lt_of_lt_of_le hc163 (hx1.2.1 87)
    have hc172 : gN_ σ161 91 < gN_ σ169 91 := by rw [e170]; exact nO_lt rfl
    rw [show ow_ 91 = 91 from rfl]
    have hl : lv_has ls 5 [(0, .ref (L 87 i0))] := by rw [hx1.at hp168 (by decide)]; exact hl
    have hx0 := hx0.trans hx1
    refine lv_dup hx hb dX5_one_13 rfl ?_
    refine lv_aload_n hx hb dX5_one_14 rfl (lv_at hl 0 rfl) ?_
    refine lv_iconst (v := 0) hx hb dX5_one_15 (by decide) ?_
    refine lv_sipush (v := 999) hx hb dX5_one_16 (by decide) ?_
    obtain ⟨o175, σ176, hc173, hs⟩ := ww_bn2 hs
    obtain ⟨hkp, hs⟩ := ww_pif hs
    obtain ⟨hx0, hcs⟩ := lx_s hx0 hcs hkp
    rcases o175 with k177 | v178
    · have hs := ww_sL hs
      have hs := ww_S hs
      have e1 : o_ = .inl k177 := congrArg Prod.fst hs
      have e2 : σ_ = bX_ σ176 := congrArg Prod.snd hs
      subst e1
      have hrmx := hcs.room (σ1 := bX_ σ176) (σ_ := σ_) (a := 1) (b := 6) rfl rfl (by rw [e2]; exact ⟨Nat.le_refl _, Nat.le_refl _⟩)
      exact wz_prop (vx_runV (As := [.int (0 : Int32), .int (999 : Int32)]) (rest := [.ref (L 91 (gN_ σ161 91)), .ref (L 91 (gN_ σ161 91))]) ⟨hx, hb, hml, hown, hts⟩ (c_X5_number g hgm l L σ169 i0 (0 : Int32) (999 : Int32) hst _ _ hc173) (cwV 2 hts (lw_V q1051 q1053 qs21 q118 q1054) rfl rfl rfl hd_X5_number ⟨(by simp only [wrA, wrm]; omega), (by simp only [wrA, wrm]; omega)⟩) (ww_preV hW (pr_dy hc171 rfl rfl) (obv_0 rfl) rfl) rfl rfl hl.1 rfl (lv_room (Nat.le_of_ble_eq_true rfl)) dX5_one_19 hrmx) no_i hx0 hW hlocks hout rfl e2 hrmx
    · have hs := ww_sR hs
      refine ww_xi0 (vx_runV (As := [.int (0 : Int32), .int (999 : Int32)]) (rest := [.ref (L 91 (gN_ σ161 91)), .ref (L 91 (gN_ σ161 91))]) ⟨hx, hb, hml, hown, hts⟩ (c_X5_number g hgm l L σ169 i0 (0 : Int32) (999 : Int32) hst _ _ hc173) (cwV 2 hts (lw_V q1051 q1053 qs21 q118 q1054) rfl rfl rfl hd_X5_number ⟨(by simp only [wrA, wrm]; omega), (by simp only [wrA, wrm]; omega)⟩) (ww_preV hW (pr_dy hc171 rfl rfl) (obv_0 rfl) rfl) rfl rfl hl.1 rfl (lv_room (Nat.le_of_ble_eq_true rfl)) dX5_one_19 hrm) hW (fun H locs hW => ?_)
      have hc179 : i0 < gN_ σ176 87 := by rw [hkp.1]; exact hc171
      have hc180 : (gN_ σ161 91) < gN_ σ176 91 := by rw [hkp.1]; exact hc172
      obtain ⟨σ183, hc181, hs⟩ := ww_bnd hs
      have hW := hW.raw
      obtain ⟨hkp, hs⟩ := ww_pif hs
      obtain ⟨hx0, hcs⟩ := lx_s hx0 hcs hkp
      refine ww_cv (va_runI (As := [.int v178]) (rest := [.ref (L 91 (gN_ σ161 91))]) ⟨hx, hb, hml, hown, hts⟩ (c_X9_init (rw_ g) rfl l L σ176 (gN_ σ161 91) v178 _ hc181) (cwI 1 hts (lw_meth q291) rfl rfl rfl (hts _ q122) (hts _ q289) (hts _ q290) rfl hd_X9_init.2 ⟨(by simp only [wrA, wrm]; omega), (by simp only [wrA, wrm]; omega)⟩) (ww_preS hW) rfl rfl hl.1 rfl (lv_room (Nat.le_of_ble_eq_true rfl)) dX5_one_22 hrm) hW (fun H locs hW => ?_)
      have hc184 : i0 < gN_ σ183 87 := by rw [hkp.1]; exact hc179
      have hc185 : (gN_ σ161 91) < gN_ σ183 91 := by rw [hkp.1]; exact hc180
      obtain ⟨hrdy, hs⟩ := ww_pif hs
      have hW := hW.ready hrdy
      have hs := ww_S hs
      exact wz_r hx hb hr hlocks hx0 hcs hW (congrArg Prod.fst hs) (congrArg Prod.snd hs) dX5_one_25
set_option maxHeartbeats 4000000 in
theorem c_X5_product (g : wg_T) (hgm : gm g = true) (l : Launch) (L : ly_T) (rec : st_T → Nat → Option ((Nat ⊕ Nat) × st_T)) (fr lo : Nat) (hrec : ∀ (L : ly_T) (σ : st_T) (i0 : Nat) (hst : l.stackTraces = false) (o_ : Nat ⊕ Nat) (σ_ : st_T), rec σ i0 = some (o_, σ_) → YR g l yX5_sum (ws_ yX5_sum cX5_sum 3 (some (.object "ElephantEdge$Formula"))) fr lo [.ref (L 87 i0)] L σ 91 o_ σ_) (σ : st_T) (i0 : Nat) (hst : l.stackTraces = false) (o_ : Nat ⊕ Nat) (σ_ : st_T) (hs : m_X5_product rec σ i0 = some (o_, σ_)) : YR g l yX5_product (ws_ yX5_product cX5_product 3 (some (.object "ElephantEdge$Formula"))) (fr + 12) (lo + 317) [.ref (L 87 i0)] L σ 91 o_ σ_ := by
  refine xbody.met (by decide) (Nat.le_of_ble_eq_true rfl) ?_
  intro p e s m args below meth c ls hx hb hr hml hlocks hts hown hnm hout hW hl
  have hown : s.vm.findClass RX5 = some m.cls := hown
  obtain ⟨L0, hL0⟩ : ∃ L0, L0 = L := ⟨_, rfl⟩
  obtain ⟨σ0, hσ0⟩ : ∃ σ0, σ0 = σ := ⟨_, rfl⟩
  rw [← hσ0, ← hL0]
  have hx0 : lext L0 σ0 L σ := by rw [hL0, hσ0]; exact lext.refl
  have hcs : bk σ0 σ 0 0 := bk.start hσ0
  have hrm : 0 ≤ cu_ σ_ - cu_ σ0 ∧ 0 ≤ su_ σ_ - su_ σ0 := ⟨Nat.zero_le _, Nat.zero_le _⟩
  have hl : lv_has ls 3 [(0, .ref (L 87 i0))] := hl
  unfold m_X5_product at hs
  have hL10 : ∀ (n10 : Nat), ∀ (L : ly_T) (σ : st_T) (ix1 : Nat) (x2 : Int32) (H : Heap) (locs : List Loc) (cells slots : Nat) (ls : Array Slot), lext L0 σ0 L σ → bk σ0 σ cells slots → (cells ≤ cu_ σ_ - cu_ σ0 ∧ slots ≤ su_ σ_ - su_ σ0) → wv g L σ s H locs → lv_has ls 3 [(0, .ref (L 87 i0)), (1, .ref (L 91 ix1)), (2, .int x2)] → (m_X5_product_L10 rec i0 n10) σ ix1 x2 = some (o_, σ_) → W p l e (wrA (fr + 12) (lo + 317) σ0 σ_) s m args below meth c H locs cells slots (vx_MQ below (yXr g L0 σ0 91 o_ σ_) (yX g L0 σ0 o_ σ_) args s (cu_ σ_ - cu_ σ0) (su_ σ_ - su_ σ0) (fun q => gz g ≤ q)) (F0 m 10 ls []) := by
    intro n10
    induction n10 with
    | zero => intro L σ ix1 x2 H locs cells slots ls hx0 hcs hrm hW hl hs; rw [m_X5_product_L10] at hs; cases hs
    | succ n10 ih10 =>
      have hL22 : ∀ (L : ly_T) (σ : st_T) (ix1 : Nat) (x2 : Int32) (H : Heap) (locs : List Loc) (cells slots : Nat) (ls : Array Slot), lext L0 σ0 L σ → bk σ0 σ cells slots → (cells ≤ cu_ σ_ - cu_ σ0 ∧ slots ≤ su_ σ_ - su_ σ0) → wv g L σ s H locs → lv_has ls 3 [(0, .ref (L 87 i0)), (1, .ref (L 91 ix1)), (2, .int x2)] → (m_X5_product_L22 rec i0 (m_X5_product_L10 rec i0 n10)) σ ix1 x2 = some (o_, σ_) → W p l e (wrA (fr + 12) (lo + 317) σ0 σ_) s m args below meth c H locs cells slots (vx_MQ below (yXr g L0 σ0 91 o_ σ_) (yX g L0 σ0 o_ σ_) args s (cu_ σ_ - cu_ σ0) (su_ σ_ - su_ σ0) (fun q => gz g ≤ q)) (F0 m 22 ls []) := by
        intro L σ ix1 x2 H locs cells slots ls hx0 hcs hrm hW hl hs
        unfold m_X5_product_L22 at hs
        refine lv_aload_n hx hb dX5_product_22 rfl (lv_at hl 0 rfl) ?_
        refine lv_dup hx hb dX5_product_23 rfl ?_
        obtain ⟨hc1, hs⟩ := ww_chk hs
        refine gf_X5_111 hx hb hts hown hW (pr_dy hc1 rfl rfl) dX5_product_24 ?_
        refine lv_iconst (v := 1) hx hb dX5_product_27 (by decide) ?_
        refine lv_iadd hx hb dX5_product_28 ?_
        obtain ⟨σ2, e3, hs⟩ := ww_let hs
        refine pf_X5_111 hx hb hts hown hW (pr_dy hc1 rfl rfl) dX5_product_29 (fun H locs hW => ?_)
        have hW : wv g L σ2 s H locs := by rw [e3]; exact hW
        obtain ⟨hx0, hcs⟩ := lx_s (σ1 := σ2) hx0 hcs (by rw [e3]; exact kp_F)
        have hc4 : i0 < gN_ σ2 87 := by rw [e3]; exact hc1
        have hp5 : pr σ2 87 i0 := (pr_dy hc4 rfl rfl)
        obtain ⟨hc6, hs⟩ := ww_chk hs
        have hp7 : pr σ2 91 ix1 := (pr_dy hc6 rfl rfl)
        obtain ⟨σ8, e9, hs⟩ := ww_let hs
        obtain ⟨hs, hck⟩ := ww_ck2 hs
        have hrm1 := hcs.room (σ1 := σ8) (a := 1) (b := 3) (by rw [e9]; rfl) (by rw [e9]; rfl) hck
        refine ww_newo (ci := 15) hx hb hts in_X7 tyX7 tyX7_ok hown (hts _ q275) (hts _ q276) (hts _ q120) hW 91 2 (obv_6 (t := 2) rfl (by rw [gP_nO _ _ _ _ _ _ _ (by decide), if_pos ⟨rfl, rfl⟩]; rfl)) rfl df_91_2 (Nat.le_of_ble_eq_true rfl) rfl sole_91 (Or.inl rfl) (Or.inr (Or.inl rfl)) hrm1.1 hrm1.2 dX5_product_32 (fun H L hx1 hW => ?_)
        rw [← e9] at hx1 hW
        have hcs := hcs.more (σ1 := σ8) (a := 1) (b := 3) (by rw [e9]; rfl) (by rw [e9]; rfl)
        have hrm := hrm1
        have hc10 : i0 < gN_ σ8 87 := Nat.lt_of_lt_of_le hc4 (hx1.2.1 87)
        have hc11 : ix1 < gN_ σ8 91 := Nat.lt_of_lt_of_le hc6 (hx1.2.1 91)
        have hc12 : gN_ σ2 91 < gN_ σ8 91 := by rw [e9]; exact nO_lt rfl
        rw [show ow_ 91 = 91 from rfl]
        have hl : lv_has ls 3 [(0, .ref (L 87 i0)), (1, .ref (L 91 ix1)), (2, .int x2)] := by rw [hx1.at hp5 (by decide), hx1.at hp7 (by decide)]; exact hl
        have hx0 := hx0.trans hx1
        refine lv_dup hx hb dX5_product_35 rfl ?_
        refine lv_iload_n hx hb dX5_product_36 rfl (lv_at hl 2 rfl) ?_
        refine lv_aload_n hx hb dX5_product_37 rfl (lv_at hl 1 rfl) ?_
        refine lv_aload_n hx hb dX5_product_38 rfl (lv_at hl 0 rfl) ?_
        obtain ⟨o15, σ16, hc13, hs⟩ := ww_bn2 hs
        have hl : lv_has ls 3 [(0, .ref (L 87 i0))] := lv_sub hl [0] rfl
        have hp19 : pr σ8 87 i0 := (pr_dy hc10 rfl rfl)
        have hp20 : pr σ8 91 (gN_ σ2 91) := (pr_dy hc12 rfl rfl)
        have hp21 : pr σ8 91 ix1 := (pr_dy hc11 rfl rfl)
        obtain ⟨hc22, hs⟩ := ww_chk hs
        obtain ⟨hs, hck⟩ := ww_ck2 hs
        have hrm1 := hcs.roomC hc22 hck
        rcases o15 with k17 | v18
        · have hs := ww_sL hs
          have hs := ww_S hs
          have e1 : o_ = .inl k17 := congrArg Prod.fst hs
          have e2 : σ_ = σ16 := congrArg Prod.snd hs
          subst e1
          exact wz_propA (vx_runV (As := []) (rest := [.ref (L 91 ix1), .int x2, .ref (L 91 (gN_ σ2 91)), .ref (L 91 (gN_ σ2 91))]) ⟨hx, hb, hml, hown, hts⟩ (c_X5_one g hgm l L rec fr lo hrec σ8 i0 hst _ _ hc13) (cwV 0 hts (lw_V q1071 q1073 qs24 q118 q1074) rfl rfl rfl hd_X5_one ⟨(by simp only [wrA, wrm]; omega), (by simp only [wrA, wrm]; omega)⟩) (ww_preV hW (pr_dy hc10 rfl rfl) (obv_0 rfl) rfl) rfl rfl hl.1 rfl (lv_room (Nat.le_of_ble_eq_true rfl)) dX5_product_39 hrm1) noA_r hx0 hW hlocks hout rfl e2 hrm1
        · have hs := ww_sR hs
          refine wz_cr (vx_runV (As := []) (rest := [.ref (L 91 ix1), .int x2, .ref (L 91 (gN_ σ2 91)), .ref (L 91 (gN_ σ2 91))]) ⟨hx, hb, hml, hown, hts⟩ (c_X5_one g hgm l L rec fr lo hrec σ8 i0 hst _ _ hc13) (cwV 0 hts (lw_V q1071 q1073 qs24 q118 q1074) rfl rfl rfl hd_X5_one ⟨(by simp only [wrA, wrm]; omega), (by simp only [wrA, wrm]; omega)⟩) (ww_preV hW (pr_dy hc10 rfl rfl) (obv_0 rfl) rfl) rfl rfl hl.1 rfl (lv_room (Nat.le_of_ble_eq_true rfl)) dX5_product_39 hrm1) hW (fun H locs L hx1 hW => ?_)
          have hc23 : i0 < gN_ σ16 87 := Nat.lt_of_lt_of_le hc10 (hx1.2.1 87)
          have hc24 : ix1 < gN_ σ16 91 := Nat.lt_of_lt_of_le hc11 (hx1.2.1 91)
          have hc25 : (gN_ σ2 91) < gN_ σ16 91 := Nat.lt_of_lt_of_le hc12 (hx1.2.1 91)
          have hcs := hcs.call hc22
          have hrm := hrm1
          have hl : lv_has ls 3 [(0, .ref (L 87 i0))] := by rw [hx1.at hp19 (by decide)]; exact hl
          refine ww_stk (st1 := [.ref (L 91 v18), .ref (L 91 ix1), .int x2, .ref (L 91 (gN_ σ2 91)), .ref (L 91 (gN_ σ2 91))]) (by rw [hx1.at hp20 (by decide), hx1.at hp21 (by decide)]) ?_
          have hx0 := hx0.trans hx1
          obtain ⟨σ28, hc26, hs⟩ := ww_bnd hs
          have hW := hW.raw
          obtain ⟨hkp, hs⟩ := ww_pif hs
          obtain ⟨hx0, hcs⟩ := lx_s hx0 hcs hkp
          refine ww_cv (va_runI (As := [.int x2, .ref (L 91 ix1), .ref (L 91 v18)]) (rest := [.ref (L 91 (gN_ σ2 91))]) ⟨hx, hb, hml, hown, hts⟩ (c_X7_init (rw_ g) rfl l L σ16 (gN_ σ2 91) x2 ix1 v18 _ hc26) (cwI 3 hts (lw_meth q299) rfl rfl rfl (hts _ q120) (hts _ q297) (hts _ q298) rfl hd_X7_init.2 ⟨(by simp only [wrA, wrm]; omega), (by simp only [wrA, wrm]; omega)⟩) (ww_preS hW) rfl rfl hl.1 rfl (lv_room (Nat.le_of_ble_eq_true rfl)) dX5_product_42 hrm) hW (fun H locs hW => ?_)
          have hc29 : i0 < gN_ σ28 87 := by rw [hkp.1]; exact hc23
          have hc30 : ix1 < gN_ σ28 91 := by rw [hkp.1]; exact hc24
          have hc31 : (gN_ σ2 91) < gN_ σ28 91 := by rw [hkp.1]; exact hc25
          obtain ⟨hrdy, hs⟩ := ww_pif hs
          have hW := hW.ready hrdy
          refine lv_astore_n (lv' := [(1, .ref (L 91 (gN_ σ2 91))), (0, .ref (L 87 i0))]) hx hb dX5_product_45 rfl hl (by decide) rfl (fun ls hl => ?_)
          refine lv_aload_n hx hb dX5_product_46 rfl (lv_at hl 1 rfl) ?_
          obtain ⟨v34, σ35, hc32, hs⟩ := ww_bn2 hs
          obtain ⟨hkp, hs⟩ := ww_pif hs
          obtain ⟨hx0, hcs⟩ := lx_s hx0 hcs hkp
          refine ww_ci (va_runV (As := []) (rest := []) ⟨hx, hb, hml, hown, hts⟩ (c_X5_now g hgm l L σ28 i0 _ _ hc32) (cwV 0 hts (lw_V q958 q960 qs15 q118 q961) rfl rfl rfl hd_X5_now ⟨(by simp only [wrA, wrm]; omega), (by simp only [wrA, wrm]; omega)⟩) (ww_preV hW (pr_dy hc29 rfl rfl) (obv_0 rfl) rfl) rfl rfl hl.1 rfl (lv_room (Nat.le_of_ble_eq_true rfl)) dX5_product_47 hrm) hW (fun H locs hW => ?_)
          have hc36 : i0 < gN_ σ35 87 := by rw [hkp.1]; exact hc29
          have hc37 : ix1 < gN_ σ35 91 := by rw [hkp.1]; exact hc30
          have hc38 : (gN_ σ2 91) < gN_ σ35 91 := by rw [hkp.1]; exact hc31
          refine lv_istore_n (lv' := [(2, .int v34), (1, .ref (L 91 (gN_ σ2 91))), (0, .ref (L 87 i0))]) hx hb dX5_product_50 rfl hl (by decide) rfl (fun ls hl => ?_)
          refine lv_goto (tgt := 10) hx hb dX5_product_51 (by decide) ?_
          exact ih10 L σ35 (gN_ σ2 91) v34 _ _ _ _ ls hx0 hcs hrm hW (lv_sub hl [2, 1, 0] rfl) hs
      intro L σ ix1 x2 H locs cells slots ls hx0 hcs hrm hW hl hs
      rw [m_X5_product_L10] at hs
      refine lv_iload_n hx hb dX5_product_10 rfl (lv_at hl 2 rfl) ?_
      refine lv_bipush (v := 42) hx hb dX5_product_11 (by decide) ?_
      refine lv_icmp_eq (tgt := 22) hx hb dX5_product_13 (by decide) (fun hc39 => ?_) (fun hc39 => ?_)
      · have hs := ww_T hs hc39
        exact hL22 L σ ix1 x2 _ _ _ _ ls hx0 hcs hrm hW (lv_sub hl [0, 1, 2] rfl) hs
      · have hs := ww_F hs hc39
        refine lv_iload_n hx hb dX5_product_16 rfl (lv_at hl 2 rfl) ?_
        refine lv_bipush (v := 47) hx hb dX5_product_17 (by decide) ?_
        refine lv_icmp_ne (tgt := 54) hx hb dX5_product_19 (by decide) (fun hc40 => ?_) (fun hc40 => ?_)
        · have hs := ww_F hs hc40
          refine lv_aload_n hx hb dX5_product_54 rfl (lv_at hl 1 rfl) ?_
          have hs := ww_S hs
          exact wz_r hx hb hr hlocks hx0 hcs hW (congrArg Prod.fst hs) (congrArg Prod.snd hs) dX5_product_55
        · have hs := ww_T hs hc40
          exact hL22 L σ ix1 x2 _ _ _ _ ls hx0 hcs hrm hW (lv_sub hl [0, 1, 2] rfl) hs
  refine lv_aload_n hx hb dX5_product_0 rfl (lv_at hl 0 rfl) ?_
  obtain ⟨o43, σ44, hc41, hs⟩ := ww_bn2 hs
  obtain ⟨hc47, hs⟩ := ww_chk hs
  have hp48 : pr σ 87 i0 := (pr_dy hc47 rfl rfl)
  obtain ⟨hc49, hs⟩ := ww_chk hs
  obtain ⟨hs, hck⟩ := ww_ck2 hs
  have hrm1 := hcs.roomC hc49 hck
  rcases o43 with k45 | v46
  · have hs := ww_sL hs
    have hs := ww_S hs
    have e1 : o_ = .inl k45 := congrArg Prod.fst hs
    have e2 : σ_ = σ44 := congrArg Prod.snd hs
    subst e1
    exact wz_propA (vx_runV (As := []) (rest := []) ⟨hx, hb, hml, hown, hts⟩ (c_X5_one g hgm l L rec fr lo hrec σ i0 hst _ _ hc41) (cwV 0 hts (lw_V q1071 q1073 qs24 q118 q1074) rfl rfl rfl hd_X5_one ⟨(by simp only [wrA, wrm]; omega), (by simp only [wrA, wrm]; omega)⟩) (ww_preV hW (pr_dy hc47 rfl rfl) (obv_0 rfl) rfl) rfl rfl hl.1 rfl (lv_room (Nat.le_of_ble_eq_true rfl)) dX5_product_1 hrm1) noA_r hx0 hW hlocks hout rfl e2 hrm1
  · have hs := ww_sR hs
    refine wz_cr (vx_runV (As := []) (rest := []) ⟨hx, hb, hml, hown, hts⟩ (c_X5_one g hgm l L rec fr lo hrec σ i0 hst _ _ hc41) (cwV 0 hts (lw_V q1071 q1073 qs24 q118 q1074) rfl rfl rfl hd_X5_one ⟨(by simp only [wrA, wrm]; omega), (by simp only [wrA, wrm]; omega)⟩) (ww_preV hW (pr_dy hc47 rfl rfl) (obv_0 rfl) rfl) rfl rfl hl.1 rfl (lv_room (Nat.le_of_ble_eq_true rfl)) dX5_product_1 hrm1) hW (fun H locs L hx1 hW => ?_)
    have hc50 : i0 < gN_ σ44 87 := Nat.lt_of_lt_of_le hc47 (hx1.2.1 87)
    have hcs := hcs.call hc49
    have hrm := hrm1
    have hl : lv_has ls 3 [(0, .ref (L 87 i0))] := by rw [hx1.at hp48 (by decide)]; exact hl
    have hx0 := hx0.trans hx1
    refine lv_astore_n (lv' := [(1, .ref (L 91 v46)), (0, .ref (L 87 i0))]) hx hb dX5_product_4 rfl hl (by decide) rfl (fun ls hl => ?_)
    refine lv_aload_n hx hb dX5_product_5 rfl (lv_at hl 1 rfl) ?_
    obtain ⟨v53, σ54, hc51, hs⟩ := ww_bn2 hs
    obtain ⟨hkp, hs⟩ := ww_pif hs
    obtain ⟨hx0, hcs⟩ := lx_s hx0 hcs hkp
    refine ww_ci (va_runV (As := []) (rest := []) ⟨hx, hb, hml, hown, hts⟩ (c_X5_now g hgm l L σ44 i0 _ _ hc51) (cwV 0 hts (lw_V q958 q960 qs15 q118 q961) rfl rfl rfl hd_X5_now ⟨(by simp only [wrA, wrm]; omega), (by simp only [wrA, wrm]; omega)⟩) (ww_preV hW (pr_dy hc50 rfl rfl) (obv_0 rfl) rfl) rfl rfl hl.1 rfl (lv_room (Nat.le_of_ble_eq_true rfl)) dX5_product_6 hrm) hW (fun H locs hW => ?_)
    have hc55 : i0 < gN_ σ54 87 := by rw [hkp.1]; exact hc50
    refine lv_istore_n (lv' := [(2, .int v53), (1, .ref (L 91 v46)), (0, .ref (L 87 i0))]) hx hb dX5_product_9 rfl hl (by decide) rfl (fun ls hl => ?_)
    exact hL10 fu_ L σ54 v46 v53 _ _ _ _ ls hx0 hcs hrm hW (lv_sub hl [2, 1, 0] rfl) hs
set_option maxHeartbeats 4000000 in
theorem c_X5_sum (g : wg_T) (hgm : gm g = true) (l : Launch) : ∀ (nn : Nat) (L : ly_T) (σ : st_T) (i0 : Nat) (hst : l.stackTraces = false) (o_ : Nat ⊕ Nat) (σ_ : st_T) (hs : m_X5_sum nn σ i0 = some (o_, σ_)), YR g l yX5_sum (ws_ yX5_sum cX5_sum 3 (some (.object "ElephantEdge$Formula"))) (8 + 13 * nn) (140 + 339 * nn) [.ref (L 87 i0)] L σ 91 o_ σ_ := by
  intro nn
  induction nn with
  | zero => intro L σ i0 hst o_ σ_ hs; rw [m_X5_sum] at hs; cases hs
  | succ nn ihr =>
  intro L σ i0 hst o_ σ_ hs
  refine xbody.met (by decide) (Nat.le_of_ble_eq_true rfl) ?_
  intro p e s m args below meth c ls hx hb hr hml hlocks hts hown hnm hout hW hl
  have hown : s.vm.findClass RX5 = some m.cls := hown
  obtain ⟨L0, hL0⟩ : ∃ L0, L0 = L := ⟨_, rfl⟩
  obtain ⟨σ0, hσ0⟩ : ∃ σ0, σ0 = σ := ⟨_, rfl⟩
  rw [← hσ0, ← hL0]
  have hx0 : lext L0 σ0 L σ := by rw [hL0, hσ0]; exact lext.refl
  have hcs : bk σ0 σ 0 0 := bk.start hσ0
  have hrm : 0 ≤ cu_ σ_ - cu_ σ0 ∧ 0 ≤ su_ σ_ - su_ σ0 := ⟨Nat.zero_le _, Nat.zero_le _⟩
  have hl : lv_has ls 3 [(0, .ref (L 87 i0))] := hl
  rw [m_X5_sum] at hs
  unfold m_X5_sum_b at hs
  have hL10 : ∀ (n10 : Nat), ∀ (L : ly_T) (σ : st_T) (ix1 : Nat) (x2 : Int32) (H : Heap) (locs : List Loc) (cells slots : Nat) (ls : Array Slot), lext L0 σ0 L σ → bk σ0 σ cells slots → (cells ≤ cu_ σ_ - cu_ σ0 ∧ slots ≤ su_ σ_ - su_ σ0) → wv g L σ s H locs → lv_has ls 3 [(0, .ref (L 87 i0)), (1, .ref (L 91 ix1)), (2, .int x2)] → (m_X5_sum_L10 (m_X5_sum nn) i0 n10) σ ix1 x2 = some (o_, σ_) → W p l e (wrA (8 + 13 * (nn + 1)) (140 + 339 * (nn + 1)) σ0 σ_) s m args below meth c H locs cells slots (vx_MQ below (yXr g L0 σ0 91 o_ σ_) (yX g L0 σ0 o_ σ_) args s (cu_ σ_ - cu_ σ0) (su_ σ_ - su_ σ0) (fun q => gz g ≤ q)) (F0 m 10 ls []) := by
    intro n10
    induction n10 with
    | zero => intro L σ ix1 x2 H locs cells slots ls hx0 hcs hrm hW hl hs; rw [m_X5_sum_L10] at hs; cases hs
    | succ n10 ih10 =>
      have hL22 : ∀ (L : ly_T) (σ : st_T) (ix1 : Nat) (x2 : Int32) (H : Heap) (locs : List Loc) (cells slots : Nat) (ls : Array Slot), lext L0 σ0 L σ → bk σ0 σ cells slots → (cells ≤ cu_ σ_ - cu_ σ0 ∧ slots ≤ su_ σ_ - su_ σ0) → wv g L σ s H locs → lv_has ls 3 [(0, .ref (L 87 i0)), (1, .ref (L 91 ix1)), (2, .int x2)] → (m_X5_sum_L22 (m_X5_sum nn) i0 (m_X5_sum_L10 (m_X5_sum nn) i0 n10)) σ ix1 x2 = some (o_, σ_) → W p l e (wrA (8 + 13 * (nn + 1)) (140 + 339 * (nn + 1)) σ0 σ_) s m args below meth c H locs cells slots (vx_MQ below (yXr g L0 σ0 91 o_ σ_) (yX g L0 σ0 o_ σ_) args s (cu_ σ_ - cu_ σ0) (su_ σ_ - su_ σ0) (fun q => gz g ≤ q)) (F0 m 22 ls []) := by
        intro L σ ix1 x2 H locs cells slots ls hx0 hcs hrm hW hl hs
        unfold m_X5_sum_L22 at hs
        refine lv_aload_n hx hb dX5_sum_22 rfl (lv_at hl 0 rfl) ?_
        refine lv_dup hx hb dX5_sum_23 rfl ?_
        obtain ⟨hc1, hs⟩ := ww_chk hs
        refine gf_X5_111 hx hb hts hown hW (pr_dy hc1 rfl rfl) dX5_sum_24 ?_
        refine lv_iconst (v := 1) hx hb dX5_sum_27 (by decide) ?_
        refine lv_iadd hx hb dX5_sum_28 ?_
        obtain ⟨σ2, e3, hs⟩ := ww_let hs
        refine pf_X5_111 hx hb hts hown hW (pr_dy hc1 rfl rfl) dX5_sum_29 (fun H locs hW => ?_)
        have hW : wv g L σ2 s H locs := by rw [e3]; exact hW
        obtain ⟨hx0, hcs⟩ := lx_s (σ1 := σ2) hx0 hcs (by rw [e3]; exact kp_F)
        have hc4 : i0 < gN_ σ2 87 := by rw [e3]; exact hc1
        have hp5 : pr σ2 87 i0 := (pr_dy hc4 rfl rfl)
        obtain ⟨hc6, hs⟩ := ww_chk hs
        have hp7 : pr σ2 91 ix1 := (pr_dy hc6 rfl rfl)
        obtain ⟨σ8, e9, hs⟩ := ww_let hs
        obtain ⟨hs, hck⟩ := ww_ck2 hs
        have hrm1 := hcs.room (σ1 := σ8) (a := 1) (b := 3) (by rw [e9]; rfl) (by rw [e9]; rfl) hck
        refine ww_newo (ci := 15) hx hb hts in_X7 tyX7 tyX7_ok hown (hts _ q275) (hts _ q276) (hts _ q120) hW 91 2 (obv_6 (t := 2) rfl (by rw [gP_nO _ _ _ _ _ _ _ (by decide), if_pos ⟨rfl, rfl⟩]; rfl)) rfl df_91_2 (Nat.le_of_ble_eq_true rfl) rfl sole_91 (Or.inl rfl) (Or.inr (Or.inl rfl)) hrm1.1 hrm1.2 dX5_sum_32 (fun H L hx1 hW => ?_)
        rw [← e9] at hx1 hW
        have hcs := hcs.more (σ1 := σ8) (a := 1) (b := 3) (by rw [e9]; rfl) (by rw [e9]; rfl)
        have hrm := hrm1
        have hc10 : i0 < gN_ σ8 87 := Nat.lt_of_lt_of_le hc4 (hx1.2.1 87)
        have hc11 : ix1 < gN_ σ8 91 := Nat.lt_of_lt_of_le hc6 (hx1.2.1 91)
        have hc12 : gN_ σ2 91 < gN_ σ8 91 := by rw [e9]; exact nO_lt rfl
        rw [show ow_ 91 = 91 from rfl]
        have hl : lv_has ls 3 [(0, .ref (L 87 i0)), (1, .ref (L 91 ix1)), (2, .int x2)] := by rw [hx1.at hp5 (by decide), hx1.at hp7 (by decide)]; exact hl
        have hx0 := hx0.trans hx1
        refine lv_dup hx hb dX5_sum_35 rfl ?_
        refine lv_iload_n hx hb dX5_sum_36 rfl (lv_at hl 2 rfl) ?_
        refine lv_aload_n hx hb dX5_sum_37 rfl (lv_at hl 1 rfl) ?_
        refine lv_aload_n hx hb dX5_sum_38 rfl (lv_at hl 0 rfl) ?_
        obtain ⟨o15, σ16, hc13, hs⟩ := ww_bn2 hs
        have hl : lv_has ls 3 [(0, .ref (L 87 i0))] := lv_sub hl [0] rfl
        have hp19 : pr σ8 87 i0 := (pr_dy hc10 rfl rfl)
        have hp20 : pr σ8 91 (gN_ σ2 91) := (pr_dy hc12 rfl rfl)
        have hp21 : pr σ8 91 ix1 := (pr_dy hc11 rfl rfl)
        obtain ⟨hc22, hs⟩ := ww_chk hs
        obtain ⟨hs, hck⟩ := ww_ck2 hs
        have hrm1 := hcs.roomC hc22 hck
        rcases o15 with k17 | v18
        · have hs := ww_sL hs
          have hs := ww_S hs
          have e1 : o_ = .inl k17 := congrArg Prod.fst hs
          have e2 : σ_ = σ16 := congrArg Prod.snd hs
          subst e1
          exact wz_propA (vx_runV (As := []) (rest := [.ref (L 91 ix1), .int x2, .ref (L 91 (gN_ σ2 91)), .ref (L 91 (gN_ σ2 91))]) ⟨hx, hb, hml, hown, hts⟩ (c_X5_product g hgm l L (m_X5_sum nn) (8 + 13 * nn) (140 + 339 * nn) ihr σ8 i0 hst _ _ hc13) (cwV 0 hts (lw_V q1067 q1069 qs23 q118 q1070) rfl rfl rfl hd_X5_product ⟨(by simp only [wrA, wrm]; omega), (by simp only [wrA, wrm]; omega)⟩) (ww_preV hW (pr_dy hc10 rfl rfl) (obv_0 rfl) rfl) rfl rfl hl.1 rfl (lv_room (Nat.le_of_ble_eq_true rfl)) dX5_sum_39 hrm1) noA_r hx0 hW hlocks hout rfl e2 hrm1
        · have hs := ww_sR hs
          refine wz_cr (vx_runV (As := []) (rest := [.ref (L 91 ix1), .int x2, .ref (L 91 (gN_ σ2 91)), .ref (L 91 (gN_ σ2 91))]) ⟨hx, hb, hml, hown, hts⟩ (c_X5_product g hgm l L (m_X5_sum nn) (8 + 13 * nn) (140 + 339 * nn) ihr σ8 i0 hst _ _ hc13) (cwV 0 hts (lw_V q1067 q1069 qs23 q118 q1070) rfl rfl rfl hd_X5_product ⟨(by simp only [wrA, wrm]; omega), (by simp only [wrA, wrm]; omega)⟩) (ww_preV hW (pr_dy hc10 rfl rfl) (obv_0 rfl) rfl) rfl rfl hl.1 rfl (lv_room (Nat.le_of_ble_eq_true rfl)) dX5_sum_39 hrm1) hW (fun H locs L hx1 hW => ?_)
          have hc23 : i0 < gN_ σ16 87 := Nat.lt_of_lt_of_le hc10 (hx1.2.1 87)
          have hc24 : ix1 < gN_ σ16 91 := Nat.lt_of_lt_of_le hc11 (hx1.2.1 91)
          have hc25 : (gN_ σ2 91) < gN_ σ16 91 := Nat.lt_of_lt_of_le hc12 (hx1.2.1 91)
          have hcs := hcs.call hc22
          have hrm := hrm1
          have hl : lv_has ls 3 [(0, .ref (L 87 i0))] := by rw [hx1.at hp19 (by decide)]; exact hl
          refine ww_stk (st1 := [.ref (L 91 v18), .ref (L 91 ix1), .int x2, .ref (L 91 (gN_ σ2 91)), .ref (L 91 (gN_ σ2 91))]) (by rw [hx1.at hp20 (by decide), hx1.at hp21 (by decide)]) ?_
          have hx0 := hx0.trans hx1
          obtain ⟨σ28, hc26, hs⟩ := ww_bnd hs
          have hW := hW.raw
          obtain ⟨hkp, hs⟩ := ww_pif hs
          obtain ⟨hx0, hcs⟩ := lx_s hx0 hcs hkp
          refine ww_cv (va_runI (As := [.int x2, .ref (L 91 ix1), .ref (L 91 v18)]) (rest := [.ref (L 91 (gN_ σ2 91))]) ⟨hx, hb, hml, hown, hts⟩ (c_X7_init (rw_ g) rfl l L σ16 (gN_ σ2 91) x2 ix1 v18 _ hc26) (cwI 3 hts (lw_meth q299) rfl rfl rfl (hts _ q120) (hts _ q297) (hts _ q298) rfl hd_X7_init.2 ⟨(by simp only [wrA, wrm]; omega), (by simp only [wrA, wrm]; omega)⟩) (ww_preS hW) rfl rfl hl.1 rfl (lv_room (Nat.le_of_ble_eq_true rfl)) dX5_sum_42 hrm) hW (fun H locs hW => ?_)
          have hc29 : i0 < gN_ σ28 87 := by rw [hkp.1]; exact hc23
          have hc30 : ix1 < gN_ σ28 91 := by rw [hkp.1]; exact hc24
          have hc31 : (gN_ σ2 91) < gN_ σ28 91 := by rw [hkp.1]; exact hc25
          obtain ⟨hrdy, hs⟩ := ww_pif hs
          have hW := hW.ready hrdy
          refine lv_astore_n (lv' := [(1, .ref (L 91 (gN_ σ2 91))), (0, .ref (L 87 i0))]) hx hb dX5_sum_45 rfl hl (by decide) rfl (fun ls hl => ?_)
          refine lv_aload_n hx hb dX5_sum_46 rfl (lv_at hl 1 rfl) ?_
          obtain ⟨v34, σ35, hc32, hs⟩ := ww_bn2 hs
          obtain ⟨hkp, hs⟩ := ww_pif hs
          obtain ⟨hx0, hcs⟩ := lx_s hx0 hcs hkp
          refine ww_ci (va_runV (As := []) (rest := []) ⟨hx, hb, hml, hown, hts⟩ (c_X5_now g hgm l L σ28 i0 _ _ hc32) (cwV 0 hts (lw_V q958 q960 qs15 q118 q961) rfl rfl rfl hd_X5_now ⟨(by simp only [wrA, wrm]; omega), (by simp only [wrA, wrm]; omega)⟩) (ww_preV hW (pr_dy hc29 rfl rfl) (obv_0 rfl) rfl) rfl rfl hl.1 rfl (lv_room (Nat.le_of_ble_eq_true rfl)) dX5_sum_47 hrm) hW (fun H locs hW => ?_)
          have hc36 : i0 < gN_ σ35 87 := by rw [hkp.1]; exact hc29
          have hc37 : ix1 < gN_ σ35 91 := by rw [hkp.1]; exact hc30
          have hc38 : (gN_ σ2 91) < gN_ σ35 91 := by rw [hkp.1]; exact hc31
          refine lv_istore_n (lv' := [(2, .int v34), (1, .ref (L 91 (gN_ σ2 91))), (0, .ref (L 87 i0))]) hx hb dX5_sum_50 rfl hl (by decide) rfl (fun ls hl => ?_)
          refine lv_goto (tgt := 10) hx hb dX5_sum_51 (by decide) ?_
          exact ih10 L σ35 (gN_ σ2 91) v34 _ _ _ _ ls hx0 hcs hrm hW (lv_sub hl [2, 1, 0] rfl) hs
      intro L σ ix1 x2 H locs cells slots ls hx0 hcs hrm hW hl hs
      rw [m_X5_sum_L10] at hs
      refine lv_iload_n hx hb dX5_sum_10 rfl (lv_at hl 2 rfl) ?_
      refine lv_bipush (v := 43) hx hb dX5_sum_11 (by decide) ?_
      refine lv_icmp_eq (tgt := 22) hx hb dX5_sum_13 (by decide) (fun hc39 => ?_) (fun hc39 => ?_)
      · have hs := ww_T hs hc39
        exact hL22 L σ ix1 x2 _ _ _ _ ls hx0 hcs hrm hW (lv_sub hl [0, 1, 2] rfl) hs
      · have hs := ww_F hs hc39
        refine lv_iload_n hx hb dX5_sum_16 rfl (lv_at hl 2 rfl) ?_
        refine lv_bipush (v := 45) hx hb dX5_sum_17 (by decide) ?_
        refine lv_icmp_ne (tgt := 54) hx hb dX5_sum_19 (by decide) (fun hc40 => ?_) (fun hc40 => ?_)
        · have hs := ww_F hs hc40
          refine lv_aload_n hx hb dX5_sum_54 rfl (lv_at hl 1 rfl) ?_
          have hs := ww_S hs
          exact wz_r hx hb hr hlocks hx0 hcs hW (congrArg Prod.fst hs) (congrArg Prod.snd hs) dX5_sum_55
        · have hs := ww_T hs hc40
          exact hL22 L σ ix1 x2 _ _ _ _ ls hx0 hcs hrm hW (lv_sub hl [0, 1, 2] rfl) hs
  refine lv_aload_n hx hb dX5_sum_0 rfl (lv_at hl 0 rfl) ?_
  obtain ⟨o43, σ44, hc41, hs⟩ := ww_bn2 hs
  obtain ⟨hc47, hs⟩ := ww_chk hs
  have hp48 : pr σ 87 i0 := (pr_dy hc47 rfl rfl)
  obtain ⟨hc49, hs⟩ := ww_chk hs
  obtain ⟨hs, hck⟩ := ww_ck2 hs
  have hrm1 := hcs.roomC hc49 hck
  rcases o43 with k45 | v46
  · have hs := ww_sL hs
    have hs := ww_S hs
    have e1 : o_ = .inl k45 := congrArg Prod.fst hs
    have e2 : σ_ = σ44 := congrArg Prod.snd hs
    subst e1
    exact wz_propA (vx_runV (As := []) (rest := []) ⟨hx, hb, hml, hown, hts⟩ (c_X5_product g hgm l L (m_X5_sum nn) (8 + 13 * nn) (140 + 339 * nn) ihr σ i0 hst _ _ hc41) (cwV 0 hts (lw_V q1067 q1069 qs23 q118 q1070) rfl rfl rfl hd_X5_product ⟨(by simp only [wrA, wrm]; omega), (by simp only [wrA, wrm]; omega)⟩) (ww_preV hW (pr_dy hc47 rfl rfl) (obv_0 rfl) rfl) rfl rfl hl.1 rfl (lv_room (Nat.le_of_ble_eq_true rfl)) dX5_sum_1 hrm1) noA_r hx0 hW hlocks hout rfl e2 hrm1
  · have hs := ww_sR hs
    refine wz_cr (vx_runV (As := []) (rest := []) ⟨hx, hb, hml, hown, hts⟩ (c_X5_product g hgm l L (m_X5_sum nn) (8 + 13 * nn) (140 + 339 * nn) ihr σ i0 hst _ _ hc41) (cwV 0 hts (lw_V q1067 q1069 qs23 q118 q1070) rfl rfl rfl hd_X5_product ⟨(by simp only [wrA, wrm]; omega), (by simp only [wrA, wrm]; omega)⟩) (ww_preV hW (pr_dy hc47 rfl rfl) (obv_0 rfl) rfl) rfl rfl hl.1 rfl (lv_room (Nat.le_of_ble_eq_true rfl)) dX5_sum_1 hrm1) hW (fun H locs L hx1 hW => ?_)
    have hc50 : i0 < gN_ σ44 87 := Nat.lt_of_lt_of_le hc47 (hx1.2.1 87)
    have hcs := hcs.call hc49
    have hrm := hrm1
    have hl : lv_has ls 3 [(0, .ref (L 87 i0))] := by rw [hx1.at hp48 (by decide)]; exact hl
    have hx0 := hx0.trans hx1
    refine lv_astore_n (lv' := [(1, .ref (L 91 v46)), (0, .ref (L 87 i0))]) hx hb dX5_sum_4 rfl hl (by decide) rfl (fun ls hl => ?_)
    refine lv_aload_n hx hb dX5_sum_5 rfl (lv_at hl 1 rfl) ?_
    obtain ⟨v53, σ54, hc51, hs⟩ := ww_bn2 hs
    obtain ⟨hkp, hs⟩ := ww_pif hs
    obtain ⟨hx0, hcs⟩ := lx_s hx0 hcs hkp
    refine ww_ci (va_runV (As := []) (rest := []) ⟨hx, hb, hml, hown, hts⟩ (c_X5_now g hgm l L σ44 i0 _ _ hc51) (cwV 0 hts (lw_V q958 q960 qs15 q118 q961) rfl rfl rfl hd_X5_now ⟨(by simp only [wrA, wrm]; omega), (by simp only [wrA, wrm]; omega)⟩) (ww_preV hW (pr_dy hc50 rfl rfl) (obv_0 rfl) rfl) rfl rfl hl.1 rfl (lv_room (Nat.le_of_ble_eq_true rfl)) dX5_sum_6 hrm) hW (fun H locs hW => ?_)
    have hc55 : i0 < gN_ σ54 87 := by rw [hkp.1]; exact hc50
    refine lv_istore_n (lv' := [(2, .int v53), (1, .ref (L 91 v46)), (0, .ref (L 87 i0))]) hx hb dX5_sum_9 rfl hl (by decide) rfl (fun ls hl => ?_)
    exact hL10 fu_ L σ54 v46 v53 _ _ _ _ ls hx0 hcs hrm hW (lv_sub hl [2, 1, 0] rfl) hs
set_option maxHeartbeats 4000000 in
theorem c_X5_clause (g : wg_T) (hgm : gm g = true) (l : Launch) (L : ly_T) (σ : st_T) (i0 : Nat) (hst : l.stackTraces = false) (o_ : Nat ⊕ Unit) (σ_ : st_T) (hs : m_X5_clause σ i0 = some (o_, σ_)) : YV g l yX5_clause (ws_ yX5_clause cX5_clause 1 none) 165 4230 [.ref (L 87 i0)] L σ o_ σ_ := by
  refine xbody.met (by decide) (Nat.le_of_ble_eq_true rfl) ?_
  intro p e s m args below meth c ls hx hb hr hml hlocks hts hown hnm hout hW hl
  have hown : s.vm.findClass RX5 = some m.cls := hown
  obtain ⟨L0, hL0⟩ : ∃ L0, L0 = L := ⟨_, rfl⟩
  obtain ⟨σ0, hσ0⟩ : ∃ σ0, σ0 = σ := ⟨_, rfl⟩
  rw [← hσ0, ← hL0]
  have hx0 : lext L0 σ0 L σ := by rw [hL0, hσ0]; exact lext.refl
  have hcs : bk σ0 σ 0 0 := bk.start hσ0
  have hrm : 0 ≤ cu_ σ_ - cu_ σ0 ∧ 0 ≤ su_ σ_ - su_ σ0 := ⟨Nat.zero_le _, Nat.zero_le _⟩
  have hl : lv_has ls 1 [(0, .ref (L 87 i0))] := hl
  unfold m_X5_clause at hs
  have hL128 : ∀ (L : ly_T) (σ : st_T)  (H : Heap) (locs : List Loc) (cells slots : Nat) (ls : Array Slot), lext L0 σ0 L σ → bk σ0 σ cells slots → (cells ≤ cu_ σ_ - cu_ σ0 ∧ slots ≤ su_ σ_ - su_ σ0) → wv g L σ s H locs → lv_has ls 1 [] → (m_X5_clause_L128 i0) σ = some (o_, σ_) → W p l e (wrA 165 4230 σ0 σ_) s m args below meth c H locs cells slots (vx_MQ below (yXv g L0 σ0 o_ σ_) (yX g L0 σ0 o_ σ_) args s (cu_ σ_ - cu_ σ0) (su_ σ_ - su_ σ0) (fun q => gz g ≤ q)) (F0 m 128 ls []) := by
    intro L σ H locs cells slots ls hx0 hcs hrm hW hl hs
    unfold m_X5_clause_L128 at hs
    have hs := ww_S hs
    exact wz_v hx hb hr hlocks hx0 hcs hW (congrArg Prod.fst hs) (congrArg Prod.snd hs) dX5_clause_128
  refine lv_aload_n hx hb dX5_clause_0 rfl (lv_at hl 0 rfl) ?_
  refine va_ldcS hx hb hown (hW.1.2.2.2.1 9 (Nat.le_of_ble_eq_true rfl)) dX5_clause_1 ?_
  obtain ⟨v3, σ4, hc1, hs⟩ := ww_bn2 hs
  obtain ⟨hkp, hs⟩ := ww_pif hs
  obtain ⟨hc5, hs⟩ := ww_chk hs
  obtain ⟨hx0, hcs⟩ := lx_s hx0 hcs hkp
  refine ww_ci (va_runV (As := [.ref (gk g 9)]) (rest := []) ⟨hx, hb, hml, hown, hts⟩ (c_X5_eats g hgm l L σ i0 9 _ _ hc1) (cwV 1 hts (lw_V q986 q988 qs18 q118 q989) rfl rfl rfl hd_X5_eats ⟨(Nat.le_of_ble_eq_true rfl), (Nat.le_of_ble_eq_true rfl)⟩) (ww_preV hW (pr_dy hc5 rfl rfl) (obv_0 rfl) rfl) rfl rfl hl.1 rfl (lv_room (Nat.le_of_ble_eq_true rfl)) dX5_clause_3 hrm) hW (fun H locs hW => ?_)
  have hc6 : i0 < gN_ σ4 87 := by rw [hkp.1]; exact hc5
  refine lv_if_eq (tgt := 16) hx hb dX5_clause_6 (by decide) (fun hc7 => ?_) (fun hc7 => ?_)
  · have hs := ww_T hs hc7
    refine lv_aload_n hx hb dX5_clause_16 rfl (lv_at hl 0 rfl) ?_
    refine va_ldcS hx hb hown (hW.1.2.2.2.1 10 (Nat.le_of_ble_eq_true rfl)) dX5_clause_17 ?_
    obtain ⟨v10, σ11, hc8, hs⟩ := ww_bn2 hs
    obtain ⟨hkp, hs⟩ := ww_pif hs
    obtain ⟨hx0, hcs⟩ := lx_s hx0 hcs hkp
    refine ww_ci (va_runV (As := [.ref (gk g 10)]) (rest := []) ⟨hx, hb, hml, hown, hts⟩ (c_X5_eats g hgm l L σ4 i0 10 _ _ hc8) (cwV 1 hts (lw_V q986 q988 qs18 q118 q989) rfl rfl rfl hd_X5_eats ⟨(Nat.le_of_ble_eq_true rfl), (Nat.le_of_ble_eq_true rfl)⟩) (ww_preV hW (pr_dy hc6 rfl rfl) (obv_0 rfl) rfl) rfl rfl hl.1 rfl (lv_room (Nat.le_of_ble_eq_true rfl)) dX5_clause_19 hrm) hW (fun H locs hW => ?_)
    have hc12 : i0 < gN_ σ11 87 := by rw [hkp.1]; exact hc6
    refine lv_if_eq (tgt := 39) hx hb dX5_clause_22 (by decide) (fun hc13 => ?_) (fun hc13 => ?_)
    · have hs := ww_T hs hc13
      refine lv_aload_n hx hb dX5_clause_39 rfl (lv_at hl 0 rfl) ?_
      refine va_ldcS hx hb hown (hW.1.2.2.2.1 11 (Nat.le_of_ble_eq_true rfl)) dX5_clause_40 ?_
      obtain ⟨v16, σ17, hc14, hs⟩ := ww_bn2 hs
      obtain ⟨hkp, hs⟩ := ww_pif hs
      obtain ⟨hx0, hcs⟩ := lx_s hx0 hcs hkp
      refine ww_ci (va_runV (As := [.ref (gk g 11)]) (rest := []) ⟨hx, hb, hml, hown, hts⟩ (c_X5_eats g hgm l L σ11 i0 11 _ _ hc14) (cwV 1 hts (lw_V q986 q988 qs18 q118 q989) rfl rfl rfl hd_X5_eats ⟨(Nat.le_of_ble_eq_true rfl), (Nat.le_of_ble_eq_true rfl)⟩) (ww_preV hW (pr_dy hc12 rfl rfl) (obv_0 rfl) rfl) rfl rfl hl.1 rfl (lv_room (Nat.le_of_ble_eq_true rfl)) dX5_clause_42 hrm) hW (fun H locs hW => ?_)
      have hc18 : i0 < gN_ σ17 87 := by rw [hkp.1]; exact hc12
      refine lv_if_eq (tgt := 63) hx hb dX5_clause_45 (by decide) (fun hc19 => ?_) (fun hc19 => ?_)
      · have hs := ww_T hs hc19
        refine lv_aload_n hx hb dX5_clause_63 rfl (lv_at hl 0 rfl) ?_
        refine va_ldcS hx hb hown (hW.1.2.2.2.1 12 (Nat.le_of_ble_eq_true rfl)) dX5_clause_64 ?_
        obtain ⟨v22, σ23, hc20, hs⟩ := ww_bn2 hs
        obtain ⟨hkp, hs⟩ := ww_pif hs
        obtain ⟨hx0, hcs⟩ := lx_s hx0 hcs hkp
        refine ww_ci (va_runV (As := [.ref (gk g 12)]) (rest := []) ⟨hx, hb, hml, hown, hts⟩ (c_X5_eats g hgm l L σ17 i0 12 _ _ hc20) (cwV 1 hts (lw_V q986 q988 qs18 q118 q989) rfl rfl rfl hd_X5_eats ⟨(Nat.le_of_ble_eq_true rfl), (Nat.le_of_ble_eq_true rfl)⟩) (ww_preV hW (pr_dy hc18 rfl rfl) (obv_0 rfl) rfl) rfl rfl hl.1 rfl (lv_room (Nat.le_of_ble_eq_true rfl)) dX5_clause_66 hrm) hW (fun H locs hW => ?_)
        have hc24 : i0 < gN_ σ23 87 := by rw [hkp.1]; exact hc18
        refine lv_if_eq (tgt := 86) hx hb dX5_clause_69 (by decide) (fun hc25 => ?_) (fun hc25 => ?_)
        · have hs := ww_T hs hc25
          refine lv_aload_n hx hb dX5_clause_86 rfl (lv_at hl 0 rfl) ?_
          refine va_ldcS hx hb hown (hW.1.2.2.2.1 13 (Nat.le_of_ble_eq_true rfl)) dX5_clause_87 ?_
          obtain ⟨v28, σ29, hc26, hs⟩ := ww_bn2 hs
          obtain ⟨hkp, hs⟩ := ww_pif hs
          obtain ⟨hx0, hcs⟩ := lx_s hx0 hcs hkp
          refine ww_ci (va_runV (As := [.ref (gk g 13)]) (rest := []) ⟨hx, hb, hml, hown, hts⟩ (c_X5_eats g hgm l L σ23 i0 13 _ _ hc26) (cwV 1 hts (lw_V q986 q988 qs18 q118 q989) rfl rfl rfl hd_X5_eats ⟨(Nat.le_of_ble_eq_true rfl), (Nat.le_of_ble_eq_true rfl)⟩) (ww_preV hW (pr_dy hc24 rfl rfl) (obv_0 rfl) rfl) rfl rfl hl.1 rfl (lv_room (Nat.le_of_ble_eq_true rfl)) dX5_clause_89 hrm) hW (fun H locs hW => ?_)
          have hc30 : i0 < gN_ σ29 87 := by rw [hkp.1]; exact hc24
          refine lv_if_eq (tgt := 110) hx hb dX5_clause_92 (by decide) (fun hc31 => ?_) (fun hc31 => ?_)
          · have hs := ww_T hs hc31
            refine lv_aload_n hx hb dX5_clause_110 rfl (lv_at hl 0 rfl) ?_
            refine lv_aload_n hx hb dX5_clause_111 rfl (lv_at hl 0 rfl) ?_
            refine va_ldcS hx hb hown (hW.1.2.2.2.1 14 (Nat.le_of_ble_eq_true rfl)) dX5_clause_112 ?_
            obtain ⟨v34, σ35, hc32, hs⟩ := ww_bn2 hs
            obtain ⟨hkp, hs⟩ := ww_pif hs
            obtain ⟨hx0, hcs⟩ := lx_s hx0 hcs hkp
            refine ww_ci (va_runV (As := [.ref (gk g 14)]) (rest := [.ref (L 87 i0)]) ⟨hx, hb, hml, hown, hts⟩ (c_X5_eats g hgm l L σ29 i0 14 _ _ hc32) (cwV 1 hts (lw_V q986 q988 qs18 q118 q989) rfl rfl rfl hd_X5_eats ⟨(Nat.le_of_ble_eq_true rfl), (Nat.le_of_ble_eq_true rfl)⟩) (ww_preV hW (pr_dy hc30 rfl rfl) (obv_0 rfl) rfl) rfl rfl hl.1 rfl (lv_room (Nat.le_of_ble_eq_true rfl)) dX5_clause_114 hrm) hW (fun H locs hW => ?_)
            have hc36 : i0 < gN_ σ35 87 := by rw [hkp.1]; exact hc30
            obtain ⟨o39, hc37, hs⟩ := ww_bnd hs
            rcases o39 with k40 | v41
            · have hs := ww_sL hs
              have hs := ww_S hs
              have e1 : o_ = .inl k40 := congrArg Prod.fst hs
              have e2 : σ_ = bX_ σ35 := congrArg Prod.snd hs
              subst e1
              have hrmx := hcs.room (σ1 := bX_ σ35) (σ_ := σ_) (a := 1) (b := 6) rfl rfl (by rw [e2]; exact ⟨Nat.le_refl _, Nat.le_refl _⟩)
              exact wz_prop (vx_runV (As := [.int v34]) (rest := []) ⟨hx, hb, hml, hown, hts⟩ (c_X5_right g hgm l L σ35 i0 v34 hst _ hc37) (cwV 1 hts (lw_V q962 q964 qs16 q118 q965) rfl rfl rfl hd_X5_right ⟨(Nat.le_of_ble_eq_true rfl), (Nat.le_of_ble_eq_true rfl)⟩) (ww_preV hW (pr_dy hc36 rfl rfl) (obv_0 rfl) rfl) rfl rfl hl.1 rfl (lv_room (Nat.le_of_ble_eq_true rfl)) dX5_clause_117 hrmx) no_v hx0 hW hlocks hout rfl e2 hrmx
            · have hs := ww_sR hs
              refine ww_xv0 (vx_runV (As := [.int v34]) (rest := []) ⟨hx, hb, hml, hown, hts⟩ (c_X5_right g hgm l L σ35 i0 v34 hst _ hc37) (cwV 1 hts (lw_V q962 q964 qs16 q118 q965) rfl rfl rfl hd_X5_right ⟨(Nat.le_of_ble_eq_true rfl), (Nat.le_of_ble_eq_true rfl)⟩) (ww_preV hW (pr_dy hc36 rfl rfl) (obv_0 rfl) rfl) rfl rfl hl.1 rfl (lv_room (Nat.le_of_ble_eq_true rfl)) dX5_clause_117 hrm) hW (fun H locs hW => ?_)
              refine lv_aload_n hx hb dX5_clause_120 rfl (lv_at hl 0 rfl) ?_
              refine lv_aload_n hx hb dX5_clause_121 rfl (lv_at hl 0 rfl) ?_
              obtain ⟨o44, σ45, hc42, hs⟩ := ww_bn2 hs
              have hl : lv_has ls 1 [] := lv_sub hl [] rfl
              have hp48 : pr σ35 87 i0 := (pr_dy hc36 rfl rfl)
              obtain ⟨hc49, hs⟩ := ww_chk hs
              obtain ⟨hs, hck⟩ := ww_ck2 hs
              have hrm1 := hcs.roomC hc49 hck
              rcases o44 with k46 | v47
              · have hs := ww_sL hs
                have hs := ww_S hs
                have e1 : o_ = .inl k46 := congrArg Prod.fst hs
                have e2 : σ_ = σ45 := congrArg Prod.snd hs
                subst e1
                exact wz_propA (vx_runV (As := []) (rest := [.ref (L 87 i0)]) ⟨hx, hb, hml, hown, hts⟩ (c_X5_sum g hgm l 12 L σ35 i0 hst _ _ hc42) (cwV 0 hts (lw_V q1063 q1065 qs22 q118 q1066) rfl rfl rfl hd_X5_sum ⟨(Nat.le_of_ble_eq_true rfl), (Nat.le_of_ble_eq_true rfl)⟩) (ww_preV hW (pr_dy hc36 rfl rfl) (obv_0 rfl) rfl) rfl rfl hl.1 rfl (lv_room (Nat.le_of_ble_eq_true rfl)) dX5_clause_122 hrm1) noA_r hx0 hW hlocks hout rfl e2 hrm1
              · have hs := ww_sR hs
                refine wz_cr (vx_runV (As := []) (rest := [.ref (L 87 i0)]) ⟨hx, hb, hml, hown, hts⟩ (c_X5_sum g hgm l 12 L σ35 i0 hst _ _ hc42) (cwV 0 hts (lw_V q1063 q1065 qs22 q118 q1066) rfl rfl rfl hd_X5_sum ⟨(Nat.le_of_ble_eq_true rfl), (Nat.le_of_ble_eq_true rfl)⟩) (ww_preV hW (pr_dy hc36 rfl rfl) (obv_0 rfl) rfl) rfl rfl hl.1 rfl (lv_room (Nat.le_of_ble_eq_true rfl)) dX5_clause_122 hrm1) hW (fun H locs L hx1 hW => ?_)
                have hc50 : i0 < gN_ σ45 87 := Nat.lt_of_lt_of_le hc36 (hx1.2.1 87)
                have hcs := hcs.call hc49
                have hrm := hrm1
                refine ww_stk (st1 := [.ref (L 91 v47), .ref (L 87 i0)]) (by rw [hx1.at hp48 (by decide)]) ?_
                have hx0 := hx0.trans hx1
                obtain ⟨hc51, hs⟩ := ww_chk hs
                obtain ⟨σ52, e53, hs⟩ := ww_let hs
                refine pf_X5_50 hx hb hts hown hW (pr_dy hc50 rfl rfl) (pr_dy hc51 rfl rfl) (hW.fl hgm (pr_dy hc50 rfl rfl) 7 (by decide) rfl (by decide)) dX5_clause_125 (fun H locs hW => ?_)
                have hW : wv g L σ52 s H locs := by rw [e53]; exact hW
                obtain ⟨hx0, hcs⟩ := lx_s (σ1 := σ52) hx0 hcs (by rw [e53]; exact (kp_P (by decide)))
                have hc54 : i0 < gN_ σ52 87 := by rw [e53]; exact hc50
                have hc55 : v47 < gN_ σ52 91 := by rw [e53]; exact hc51
                exact hL128 L σ52 _ _ _ _ ls hx0 hcs hrm hW (lv_sub hl [] rfl) hs
          · have hs := ww_F hs hc31
            refine lv_aload_n hx hb dX5_clause_95 rfl (lv_at hl 0 rfl) ?_
            refine lv_aload_n hx hb dX5_clause_96 rfl (lv_at hl 0 rfl) ?_
            refine lv_iconst (v := 0) hx hb dX5_clause_97 (by decide) ?_
            refine lv_sipush (v := 999) hx hb dX5_clause_98 (by decide) ?_
            obtain ⟨o58, σ59, hc56, hs⟩ := ww_bn2 hs
            obtain ⟨hkp, hs⟩ := ww_pif hs
            obtain ⟨hx0, hcs⟩ := lx_s hx0 hcs hkp
            rcases o58 with k60 | v61
            · have hs := ww_sL hs
              have hs := ww_S hs
              have e1 : o_ = .inl k60 := congrArg Prod.fst hs
              have e2 : σ_ = bX_ σ59 := congrArg Prod.snd hs
              subst e1
              have hrmx := hcs.room (σ1 := bX_ σ59) (σ_ := σ_) (a := 1) (b := 6) rfl rfl (by rw [e2]; exact ⟨Nat.le_refl _, Nat.le_refl _⟩)
              exact wz_prop (vx_runV (As := [.int (0 : Int32), .int (999 : Int32)]) (rest := [.ref (L 87 i0)]) ⟨hx, hb, hml, hown, hts⟩ (c_X5_number g hgm l L σ29 i0 (0 : Int32) (999 : Int32) hst _ _ hc56) (cwV 2 hts (lw_V q1051 q1053 qs21 q118 q1054) rfl rfl rfl hd_X5_number ⟨(Nat.le_of_ble_eq_true rfl), (Nat.le_of_ble_eq_true rfl)⟩) (ww_preV hW (pr_dy hc30 rfl rfl) (obv_0 rfl) rfl) rfl rfl hl.1 rfl (lv_room (Nat.le_of_ble_eq_true rfl)) dX5_clause_101 hrmx) no_i hx0 hW hlocks hout rfl e2 hrmx
            · have hs := ww_sR hs
              refine ww_xi0 (vx_runV (As := [.int (0 : Int32), .int (999 : Int32)]) (rest := [.ref (L 87 i0)]) ⟨hx, hb, hml, hown, hts⟩ (c_X5_number g hgm l L σ29 i0 (0 : Int32) (999 : Int32) hst _ _ hc56) (cwV 2 hts (lw_V q1051 q1053 qs21 q118 q1054) rfl rfl rfl hd_X5_number ⟨(Nat.le_of_ble_eq_true rfl), (Nat.le_of_ble_eq_true rfl)⟩) (ww_preV hW (pr_dy hc30 rfl rfl) (obv_0 rfl) rfl) rfl rfl hl.1 rfl (lv_room (Nat.le_of_ble_eq_true rfl)) dX5_clause_101 hrm) hW (fun H locs hW => ?_)
              have hc62 : i0 < gN_ σ59 87 := by rw [hkp.1]; exact hc30
              obtain ⟨σ63, e64, hs⟩ := ww_let hs
              refine pf_X5_34 hx hb hts hown hW (pr_dy hc62 rfl rfl) dX5_clause_104 (fun H locs hW => ?_)
              have hW : wv g L σ63 s H locs := by rw [e64]; exact hW
              obtain ⟨hx0, hcs⟩ := lx_s (σ1 := σ63) hx0 hcs (by rw [e64]; exact kp_F)
              have hc65 : i0 < gN_ σ63 87 := by rw [e64]; exact hc62
              refine lv_goto (tgt := 128) hx hb dX5_clause_107 (by decide) ?_
              exact hL128 L σ63 _ _ _ _ ls hx0 hcs hrm hW (lv_sub hl [] rfl) hs
        · have hs := ww_F hs hc25
          refine lv_aload_n hx hb dX5_clause_72 rfl (lv_at hl 0 rfl) ?_
          refine lv_aload_n hx hb dX5_clause_73 rfl (lv_at hl 0 rfl) ?_
          refine lv_iconst (v := 0) hx hb dX5_clause_74 (by decide) ?_
          refine lv_bipush (v := 100) hx hb dX5_clause_75 (by decide) ?_
          obtain ⟨o68, σ69, hc66, hs⟩ := ww_bn2 hs
          obtain ⟨hkp, hs⟩ := ww_pif hs
          obtain ⟨hx0, hcs⟩ := lx_s hx0 hcs hkp
          rcases o68 with k70 | v71
          · have hs := ww_sL hs
            have hs := ww_S hs
            have e1 : o_ = .inl k70 := congrArg Prod.fst hs
            have e2 : σ_ = bX_ σ69 := congrArg Prod.snd hs
            subst e1
            have hrmx := hcs.room (σ1 := bX_ σ69) (σ_ := σ_) (a := 1) (b := 6) rfl rfl (by rw [e2]; exact ⟨Nat.le_refl _, Nat.le_refl _⟩)
            exact wz_prop (vx_runV (As := [.int (0 : Int32), .int (100 : Int32)]) (rest := [.ref (L 87 i0)]) ⟨hx, hb, hml, hown, hts⟩ (c_X5_number g hgm l L σ23 i0 (0 : Int32) (100 : Int32) hst _ _ hc66) (cwV 2 hts (lw_V q1051 q1053 qs21 q118 q1054) rfl rfl rfl hd_X5_number ⟨(Nat.le_of_ble_eq_true rfl), (Nat.le_of_ble_eq_true rfl)⟩) (ww_preV hW (pr_dy hc24 rfl rfl) (obv_0 rfl) rfl) rfl rfl hl.1 rfl (lv_room (Nat.le_of_ble_eq_true rfl)) dX5_clause_77 hrmx) no_i hx0 hW hlocks hout rfl e2 hrmx
          · have hs := ww_sR hs
            refine ww_xi0 (vx_runV (As := [.int (0 : Int32), .int (100 : Int32)]) (rest := [.ref (L 87 i0)]) ⟨hx, hb, hml, hown, hts⟩ (c_X5_number g hgm l L σ23 i0 (0 : Int32) (100 : Int32) hst _ _ hc66) (cwV 2 hts (lw_V q1051 q1053 qs21 q118 q1054) rfl rfl rfl hd_X5_number ⟨(Nat.le_of_ble_eq_true rfl), (Nat.le_of_ble_eq_true rfl)⟩) (ww_preV hW (pr_dy hc24 rfl rfl) (obv_0 rfl) rfl) rfl rfl hl.1 rfl (lv_room (Nat.le_of_ble_eq_true rfl)) dX5_clause_77 hrm) hW (fun H locs hW => ?_)
            have hc72 : i0 < gN_ σ69 87 := by rw [hkp.1]; exact hc24
            obtain ⟨σ73, e74, hs⟩ := ww_let hs
            refine pf_X5_31 hx hb hts hown hW (pr_dy hc72 rfl rfl) dX5_clause_80 (fun H locs hW => ?_)
            have hW : wv g L σ73 s H locs := by rw [e74]; exact hW
            obtain ⟨hx0, hcs⟩ := lx_s (σ1 := σ73) hx0 hcs (by rw [e74]; exact kp_F)
            have hc75 : i0 < gN_ σ73 87 := by rw [e74]; exact hc72
            refine lv_goto (tgt := 128) hx hb dX5_clause_83 (by decide) ?_
            exact hL128 L σ73 _ _ _ _ ls hx0 hcs hrm hW (lv_sub hl [] rfl) hs
      · have hs := ww_F hs hc19
        refine lv_aload_n hx hb dX5_clause_48 rfl (lv_at hl 0 rfl) ?_
        refine lv_aload_n hx hb dX5_clause_49 rfl (lv_at hl 0 rfl) ?_
        refine lv_iconst (v := 0) hx hb dX5_clause_50 (by decide) ?_
        refine lv_sipush (v := 500) hx hb dX5_clause_51 (by decide) ?_
        obtain ⟨o78, σ79, hc76, hs⟩ := ww_bn2 hs
        obtain ⟨hkp, hs⟩ := ww_pif hs
        obtain ⟨hx0, hcs⟩ := lx_s hx0 hcs hkp
        rcases o78 with k80 | v81
        · have hs := ww_sL hs
          have hs := ww_S hs
          have e1 : o_ = .inl k80 := congrArg Prod.fst hs
          have e2 : σ_ = bX_ σ79 := congrArg Prod.snd hs
          subst e1
          have hrmx := hcs.room (σ1 := bX_ σ79) (σ_ := σ_) (a := 1) (b := 6) rfl rfl (by rw [e2]; exact ⟨Nat.le_refl _, Nat.le_refl _⟩)
          exact wz_prop (vx_runV (As := [.int (0 : Int32), .int (500 : Int32)]) (rest := [.ref (L 87 i0)]) ⟨hx, hb, hml, hown, hts⟩ (c_X5_number g hgm l L σ17 i0 (0 : Int32) (500 : Int32) hst _ _ hc76) (cwV 2 hts (lw_V q1051 q1053 qs21 q118 q1054) rfl rfl rfl hd_X5_number ⟨(Nat.le_of_ble_eq_true rfl), (Nat.le_of_ble_eq_true rfl)⟩) (ww_preV hW (pr_dy hc18 rfl rfl) (obv_0 rfl) rfl) rfl rfl hl.1 rfl (lv_room (Nat.le_of_ble_eq_true rfl)) dX5_clause_54 hrmx) no_i hx0 hW hlocks hout rfl e2 hrmx
        · have hs := ww_sR hs
          refine ww_xi0 (vx_runV (As := [.int (0 : Int32), .int (500 : Int32)]) (rest := [.ref (L 87 i0)]) ⟨hx, hb, hml, hown, hts⟩ (c_X5_number g hgm l L σ17 i0 (0 : Int32) (500 : Int32) hst _ _ hc76) (cwV 2 hts (lw_V q1051 q1053 qs21 q118 q1054) rfl rfl rfl hd_X5_number ⟨(Nat.le_of_ble_eq_true rfl), (Nat.le_of_ble_eq_true rfl)⟩) (ww_preV hW (pr_dy hc18 rfl rfl) (obv_0 rfl) rfl) rfl rfl hl.1 rfl (lv_room (Nat.le_of_ble_eq_true rfl)) dX5_clause_54 hrm) hW (fun H locs hW => ?_)
          have hc82 : i0 < gN_ σ79 87 := by rw [hkp.1]; exact hc18
          obtain ⟨σ83, e84, hs⟩ := ww_let hs
          refine pf_X5_28 hx hb hts hown hW (pr_dy hc82 rfl rfl) dX5_clause_57 (fun H locs hW => ?_)
          have hW : wv g L σ83 s H locs := by rw [e84]; exact hW
          obtain ⟨hx0, hcs⟩ := lx_s (σ1 := σ83) hx0 hcs (by rw [e84]; exact kp_F)
          have hc85 : i0 < gN_ σ83 87 := by rw [e84]; exact hc82
          refine lv_goto (tgt := 128) hx hb dX5_clause_60 (by decide) ?_
          exact hL128 L σ83 _ _ _ _ ls hx0 hcs hrm hW (lv_sub hl [] rfl) hs
    · have hs := ww_F hs hc13
      refine lv_aload_n hx hb dX5_clause_25 rfl (lv_at hl 0 rfl) ?_
      refine lv_aload_n hx hb dX5_clause_26 rfl (lv_at hl 0 rfl) ?_
      refine lv_iconst (v := 1) hx hb dX5_clause_27 (by decide) ?_
      refine lv_bipush (v := 50) hx hb dX5_clause_28 (by decide) ?_
      obtain ⟨o88, σ89, hc86, hs⟩ := ww_bn2 hs
      obtain ⟨hkp, hs⟩ := ww_pif hs
      obtain ⟨hx0, hcs⟩ := lx_s hx0 hcs hkp
      rcases o88 with k90 | v91
      · have hs := ww_sL hs
        have hs := ww_S hs
        have e1 : o_ = .inl k90 := congrArg Prod.fst hs
        have e2 : σ_ = bX_ σ89 := congrArg Prod.snd hs
        subst e1
        have hrmx := hcs.room (σ1 := bX_ σ89) (σ_ := σ_) (a := 1) (b := 6) rfl rfl (by rw [e2]; exact ⟨Nat.le_refl _, Nat.le_refl _⟩)
        exact wz_prop (vx_runV (As := [.int (1 : Int32), .int (50 : Int32)]) (rest := [.ref (L 87 i0)]) ⟨hx, hb, hml, hown, hts⟩ (c_X5_number g hgm l L σ11 i0 (1 : Int32) (50 : Int32) hst _ _ hc86) (cwV 2 hts (lw_V q1051 q1053 qs21 q118 q1054) rfl rfl rfl hd_X5_number ⟨(Nat.le_of_ble_eq_true rfl), (Nat.le_of_ble_eq_true rfl)⟩) (ww_preV hW (pr_dy hc12 rfl rfl) (obv_0 rfl) rfl) rfl rfl hl.1 rfl (lv_room (Nat.le_of_ble_eq_true rfl)) dX5_clause_30 hrmx) no_i hx0 hW hlocks hout rfl e2 hrmx
      · have hs := ww_sR hs
        refine ww_xi0 (vx_runV (As := [.int (1 : Int32), .int (50 : Int32)]) (rest := [.ref (L 87 i0)]) ⟨hx, hb, hml, hown, hts⟩ (c_X5_number g hgm l L σ11 i0 (1 : Int32) (50 : Int32) hst _ _ hc86) (cwV 2 hts (lw_V q1051 q1053 qs21 q118 q1054) rfl rfl rfl hd_X5_number ⟨(Nat.le_of_ble_eq_true rfl), (Nat.le_of_ble_eq_true rfl)⟩) (ww_preV hW (pr_dy hc12 rfl rfl) (obv_0 rfl) rfl) rfl rfl hl.1 rfl (lv_room (Nat.le_of_ble_eq_true rfl)) dX5_clause_30 hrm) hW (fun H locs hW => ?_)
        have hc92 : i0 < gN_ σ89 87 := by rw [hkp.1]; exact hc12
        obtain ⟨σ93, e94, hs⟩ := ww_let hs
        refine pf_X5_24 hx hb hts hown hW (pr_dy hc92 rfl rfl) dX5_clause_33 (fun H locs hW => ?_)
        have hW : wv g L σ93 s H locs := by rw [e94]; exact hW
        obtain ⟨hx0, hcs⟩ := lx_s (σ1 := σ93) hx0 hcs (by rw [e94]; exact kp_F)
        have hc95 : i0 < gN_ σ93 87 := by rw [e94]; exact hc92
        refine lv_goto (tgt := 128) hx hb dX5_clause_36 (by decide) ?_
        exact hL128 L σ93 _ _ _ _ ls hx0 hcs hrm hW (lv_sub hl [] rfl) hs
  · have hs := ww_F hs hc7
    refine lv_aload_n hx hb dX5_clause_9 rfl (lv_at hl 0 rfl) ?_
    obtain ⟨o98, σ99, hc96, hs⟩ := ww_bn2 hs
    obtain ⟨hkp, hs⟩ := ww_pif hs
    obtain ⟨hx0, hcs⟩ := lx_s hx0 hcs hkp
    rcases o98 with k100 | v101
    · have hs := ww_sL hs
      have hs := ww_S hs
      have e1 : o_ = .inl k100 := congrArg Prod.fst hs
      have e2 : σ_ = bX_ σ99 := congrArg Prod.snd hs
      subst e1
      have hrmx := hcs.room (σ1 := bX_ σ99) (σ_ := σ_) (a := 1) (b := 6) rfl rfl (by rw [e2]; exact ⟨Nat.le_refl _, Nat.le_refl _⟩)
      exact wz_prop (vx_runV (As := []) (rest := []) ⟨hx, hb, hml, hown, hts⟩ (c_X5_likes g hgm l L σ4 i0 hst _ _ hc96) (cwV 0 hts (lw_V q1040 q1042 qs20 q118 q1043) rfl rfl rfl hd_X5_likes ⟨(Nat.le_of_ble_eq_true rfl), (Nat.le_of_ble_eq_true rfl)⟩) (ww_preV hW (pr_dy hc6 rfl rfl) (obv_0 rfl) rfl) rfl rfl hl.1 rfl (lv_room (Nat.le_of_ble_eq_true rfl)) dX5_clause_10 hrmx) no_v hx0 hW hlocks hout rfl e2 hrmx
    · have hs := ww_sR hs
      refine ww_xv0 (vx_runV (As := []) (rest := []) ⟨hx, hb, hml, hown, hts⟩ (c_X5_likes g hgm l L σ4 i0 hst _ _ hc96) (cwV 0 hts (lw_V q1040 q1042 qs20 q118 q1043) rfl rfl rfl hd_X5_likes ⟨(Nat.le_of_ble_eq_true rfl), (Nat.le_of_ble_eq_true rfl)⟩) (ww_preV hW (pr_dy hc6 rfl rfl) (obv_0 rfl) rfl) rfl rfl hl.1 rfl (lv_room (Nat.le_of_ble_eq_true rfl)) dX5_clause_10 hrm) hW (fun H locs hW => ?_)
      have hc102 : i0 < gN_ σ99 87 := by rw [hkp.1]; exact hc6
      refine lv_goto (tgt := 128) hx hb dX5_clause_13 (by decide) ?_
      exact hL128 L σ99 _ _ _ _ ls hx0 hcs hrm hW (lv_sub hl [] rfl) hs
set_option maxHeartbeats 4000000 in
theorem c_X5_read (g : wg_T) (hgm : gm g = true) (l : Launch) (L : ly_T) (σ : st_T) (i0 : Nat) (hst : l.stackTraces = false) (o_ : Nat ⊕ Unit) (σ_ : st_T) (hs : m_X5_read σ i0 = some (o_, σ_)) : YV g l yX5_read (ws_ yX5_read cX5_read 1 none) 166 4250 [.ref (L 87 i0)] L σ o_ σ_ := by
  refine xbody.met (by decide) (Nat.le_of_ble_eq_true rfl) ?_
  intro p e s m args below meth c ls hx hb hr hml hlocks hts hown hnm hout hW hl
  have hown : s.vm.findClass RX5 = some m.cls := hown
  obtain ⟨L0, hL0⟩ : ∃ L0, L0 = L := ⟨_, rfl⟩
  obtain ⟨σ0, hσ0⟩ : ∃ σ0, σ0 = σ := ⟨_, rfl⟩
  rw [← hσ0, ← hL0]
  have hx0 : lext L0 σ0 L σ := by rw [hL0, hσ0]; exact lext.refl
  have hcs : bk σ0 σ 0 0 := bk.start hσ0
  have hrm : 0 ≤ cu_ σ_ - cu_ σ0 ∧ 0 ≤ su_ σ_ - su_ σ0 := ⟨Nat.zero_le _, Nat.zero_le _⟩
  have hl : lv_has ls 1 [(0, .ref (L 87 i0))] := hl
  unfold m_X5_read at hs
  have hL0 : ∀ (n0 : Nat), ∀ (L : ly_T) (σ : st_T)  (H : Heap) (locs : List Loc) (cells slots : Nat) (ls : Array Slot), lext L0 σ0 L σ → bk σ0 σ cells slots → (cells ≤ cu_ σ_ - cu_ σ0 ∧ slots ≤ su_ σ_ - su_ σ0) → wv g L σ s H locs → lv_has ls 1 [(0, .ref (L 87 i0))] → (m_X5_read_L0 i0 n0) σ = some (o_, σ_) → W p l e (wrA 166 4250 σ0 σ_) s m args below meth c H locs cells slots (vx_MQ below (yXv g L0 σ0 o_ σ_) (yX g L0 σ0 o_ σ_) args s (cu_ σ_ - cu_ σ0) (su_ σ_ - su_ σ0) (fun q => gz g ≤ q)) (F0 m 0 ls []) := by
    intro n0
    induction n0 with
    | zero => intro L σ H locs cells slots ls hx0 hcs hrm hW hl hs; rw [m_X5_read_L0] at hs; cases hs
    | succ n0 ih0 =>
      have hL23 : ∀ (L : ly_T) (σ : st_T) (t1 : Int32) (H : Heap) (locs : List Loc) (cells slots : Nat) (ls : Array Slot), lext L0 σ0 L σ → bk σ0 σ cells slots → (cells ≤ cu_ σ_ - cu_ σ0 ∧ slots ≤ su_ σ_ - su_ σ0) → wv g L σ s H locs → lv_has ls 1 [(0, .ref (L 87 i0))] → (m_X5_read_L23 i0 (m_X5_read_L0 i0 n0)) σ t1 = some (o_, σ_) → W p l e (wrA 166 4250 σ0 σ_) s m args below meth c H locs cells slots (vx_MQ below (yXv g L0 σ0 o_ σ_) (yX g L0 σ0 o_ σ_) args s (cu_ σ_ - cu_ σ0) (su_ σ_ - su_ σ0) (fun q => gz g ≤ q)) (F0 m 23 ls [.int t1, .ref (L 87 i0)]) := by
        intro L σ t1 H locs cells slots ls hx0 hcs hrm hW hl hs
        unfold m_X5_read_L23 at hs
        obtain ⟨o3, hc1, hs⟩ := ww_bnd hs
        obtain ⟨hc6, hs⟩ := ww_chk hs
        rcases o3 with k4 | v5
        · have hs := ww_sL hs
          have hs := ww_S hs
          have e1 : o_ = .inl k4 := congrArg Prod.fst hs
          have e2 : σ_ = bX_ σ := congrArg Prod.snd hs
          subst e1
          have hrmx := hcs.room (σ1 := bX_ σ) (σ_ := σ_) (a := 1) (b := 6) rfl rfl (by rw [e2]; exact ⟨Nat.le_refl _, Nat.le_refl _⟩)
          exact wz_prop (vx_runV (As := [.int t1]) (rest := []) ⟨hx, hb, hml, hown, hts⟩ (c_X5_right g hgm l L σ i0 t1 hst _ hc1) (cwV 1 hts (lw_V q962 q964 qs16 q118 q965) rfl rfl rfl hd_X5_right ⟨(Nat.le_of_ble_eq_true rfl), (Nat.le_of_ble_eq_true rfl)⟩) (ww_preV hW (pr_dy hc6 rfl rfl) (obv_0 rfl) rfl) rfl rfl hl.1 rfl (lv_room (Nat.le_of_ble_eq_true rfl)) dX5_read_23 hrmx) no_v hx0 hW hlocks hout rfl e2 hrmx
        · have hs := ww_sR hs
          refine ww_xv0 (vx_runV (As := [.int t1]) (rest := []) ⟨hx, hb, hml, hown, hts⟩ (c_X5_right g hgm l L σ i0 t1 hst _ hc1) (cwV 1 hts (lw_V q962 q964 qs16 q118 q965) rfl rfl rfl hd_X5_right ⟨(Nat.le_of_ble_eq_true rfl), (Nat.le_of_ble_eq_true rfl)⟩) (ww_preV hW (pr_dy hc6 rfl rfl) (obv_0 rfl) rfl) rfl rfl hl.1 rfl (lv_room (Nat.le_of_ble_eq_true rfl)) dX5_read_23 hrm) hW (fun H locs hW => ?_)
          refine lv_aload_n hx hb dX5_read_26 rfl (lv_at hl 0 rfl) ?_
          obtain ⟨o9, σ10, hc7, hs⟩ := ww_bn2 hs
          have hp13 : pr σ 87 i0 := (pr_dy hc6 rfl rfl)
          obtain ⟨hc14, hs⟩ := ww_chk hs
          obtain ⟨hs, hck⟩ := ww_ck2 hs
          have hrm1 := hcs.roomC hc14 hck
          rcases o9 with k11 | v12
          · have hs := ww_sL hs
            have hs := ww_S hs
            have e1 : o_ = .inl k11 := congrArg Prod.fst hs
            have e2 : σ_ = σ10 := congrArg Prod.snd hs
            subst e1
            exact wz_propA (vx_runV (As := []) (rest := []) ⟨hx, hb, hml, hown, hts⟩ (c_X5_clause g hgm l L σ i0 hst _ _ hc7) (cwV 0 hts (lw_V q981 q983 qs17 q118 q984) rfl rfl rfl hd_X5_clause ⟨(Nat.le_of_ble_eq_true rfl), (Nat.le_of_ble_eq_true rfl)⟩) (ww_preV hW (pr_dy hc6 rfl rfl) (obv_0 rfl) rfl) rfl rfl hl.1 rfl (lv_room (Nat.le_of_ble_eq_true rfl)) dX5_read_27 hrm1) noA_v hx0 hW hlocks hout rfl e2 hrm1
          · have hs := ww_sR hs
            refine wz_cv (vx_runV (As := []) (rest := []) ⟨hx, hb, hml, hown, hts⟩ (c_X5_clause g hgm l L σ i0 hst _ _ hc7) (cwV 0 hts (lw_V q981 q983 qs17 q118 q984) rfl rfl rfl hd_X5_clause ⟨(Nat.le_of_ble_eq_true rfl), (Nat.le_of_ble_eq_true rfl)⟩) (ww_preV hW (pr_dy hc6 rfl rfl) (obv_0 rfl) rfl) rfl rfl hl.1 rfl (lv_room (Nat.le_of_ble_eq_true rfl)) dX5_read_27 hrm1) hW (fun H locs L hx1 hW => ?_)
            have hc15 : i0 < gN_ σ10 87 := Nat.lt_of_lt_of_le hc6 (hx1.2.1 87)
            have hcs := hcs.call hc14
            have hrm := hrm1
            have hl : lv_has ls 1 [(0, .ref (L 87 i0))] := by rw [hx1.at hp13 (by decide)]; exact hl
            have hx0 := hx0.trans hx1
            refine lv_aload_n hx hb dX5_read_30 rfl (lv_at hl 0 rfl) ?_
            refine lv_bipush (v := 59) hx hb dX5_read_31 (by decide) ?_
            obtain ⟨o18, σ19, hc16, hs⟩ := ww_bn2 hs
            obtain ⟨hkp, hs⟩ := ww_pif hs
            obtain ⟨hx0, hcs⟩ := lx_s hx0 hcs hkp
            rcases o18 with k20 | v21
            · have hs := ww_sL hs
              have hs := ww_S hs
              have e1 : o_ = .inl k20 := congrArg Prod.fst hs
              have e2 : σ_ = bX_ σ19 := congrArg Prod.snd hs
              subst e1
              have hrmx := hcs.room (σ1 := bX_ σ19) (σ_ := σ_) (a := 1) (b := 6) rfl rfl (by rw [e2]; exact ⟨Nat.le_refl _, Nat.le_refl _⟩)
              exact wz_prop (vx_runV (As := [.int (59 : Int32)]) (rest := []) ⟨hx, hb, hml, hown, hts⟩ (c_X5_sign g hgm l L σ10 i0 (59 : Int32) hst _ _ hc16) (cwV 1 hts (lw_V q1102 q1104 qs26 q118 q1105) rfl rfl rfl hd_X5_sign ⟨(Nat.le_of_ble_eq_true rfl), (Nat.le_of_ble_eq_true rfl)⟩) (ww_preV hW (pr_dy hc15 rfl rfl) (obv_0 rfl) rfl) rfl rfl hl.1 rfl (lv_room (Nat.le_of_ble_eq_true rfl)) dX5_read_33 hrmx) no_v hx0 hW hlocks hout rfl e2 hrmx
            · have hs := ww_sR hs
              refine ww_xv0 (vx_runV (As := [.int (59 : Int32)]) (rest := []) ⟨hx, hb, hml, hown, hts⟩ (c_X5_sign g hgm l L σ10 i0 (59 : Int32) hst _ _ hc16) (cwV 1 hts (lw_V q1102 q1104 qs26 q118 q1105) rfl rfl rfl hd_X5_sign ⟨(Nat.le_of_ble_eq_true rfl), (Nat.le_of_ble_eq_true rfl)⟩) (ww_preV hW (pr_dy hc15 rfl rfl) (obv_0 rfl) rfl) rfl rfl hl.1 rfl (lv_room (Nat.le_of_ble_eq_true rfl)) dX5_read_33 hrm) hW (fun H locs hW => ?_)
              have hc22 : i0 < gN_ σ19 87 := by rw [hkp.1]; exact hc15
              refine lv_aload_n hx hb dX5_read_36 rfl (lv_at hl 0 rfl) ?_
              refine lv_dup hx hb dX5_read_37 rfl ?_
              refine gf_X5_67 hx hb hts hown hW (pr_dy hc22 rfl rfl) dX5_read_38 ?_
              refine lv_iconst (v := 1) hx hb dX5_read_41 (by decide) ?_
              refine lv_iadd hx hb dX5_read_42 ?_
              obtain ⟨σ23, e24, hs⟩ := ww_let hs
              refine pf_X5_67 hx hb hts hown hW (pr_dy hc22 rfl rfl) dX5_read_43 (fun H locs hW => ?_)
              have hW : wv g L σ23 s H locs := by rw [e24]; exact hW
              obtain ⟨hx0, hcs⟩ := lx_s (σ1 := σ23) hx0 hcs (by rw [e24]; exact kp_F)
              have hc25 : i0 < gN_ σ23 87 := by rw [e24]; exact hc22
              refine lv_goto (tgt := 0) hx hb dX5_read_46 (by decide) ?_
              exact ih0 L σ23 _ _ _ _ ls hx0 hcs hrm hW (lv_sub hl [0] rfl) hs
      intro L σ H locs cells slots ls hx0 hcs hrm hW hl hs
      rw [m_X5_read_L0] at hs
      refine lv_aload_n hx hb dX5_read_0 rfl (lv_at hl 0 rfl) ?_
      obtain ⟨v28, σ29, hc26, hs⟩ := ww_bn2 hs
      obtain ⟨hkp, hs⟩ := ww_pif hs
      obtain ⟨hc30, hs⟩ := ww_chk hs
      obtain ⟨hx0, hcs⟩ := lx_s hx0 hcs hkp
      refine ww_ci (va_runV (As := []) (rest := []) ⟨hx, hb, hml, hown, hts⟩ (c_X5_now g hgm l L σ i0 _ _ hc26) (cwV 0 hts (lw_V q958 q960 qs15 q118 q961) rfl rfl rfl hd_X5_now ⟨(Nat.le_of_ble_eq_true rfl), (Nat.le_of_ble_eq_true rfl)⟩) (ww_preV hW (pr_dy hc30 rfl rfl) (obv_0 rfl) rfl) rfl rfl hl.1 rfl (lv_room (Nat.le_of_ble_eq_true rfl)) dX5_read_1 hrm) hW (fun H locs hW => ?_)
      have hc31 : i0 < gN_ σ29 87 := by rw [hkp.1]; exact hc30
      refine lv_iconst (v := (-1)) hx hb dX5_read_4 (by decide) ?_
      refine lv_icmp_eq (tgt := 49) hx hb dX5_read_5 (by decide) (fun hc32 => ?_) (fun hc32 => ?_)
      · have hs := ww_T hs hc32
        have hs := ww_S hs
        exact wz_v hx hb hr hlocks hx0 hcs hW (congrArg Prod.fst hs) (congrArg Prod.snd hs) dX5_read_49
      · have hs := ww_F hs hc32
        refine lv_aload_n hx hb dX5_read_8 rfl (lv_at hl 0 rfl) ?_
        refine lv_aload_n hx hb dX5_read_9 rfl (lv_at hl 0 rfl) ?_
        refine gf_X5_67 hx hb hts hown hW (pr_dy hc31 rfl rfl) dX5_read_10 ?_
        refine lv_bipush (v := 12) hx hb dX5_read_13 (by decide) ?_
        refine lv_icmp_ge (tgt := 22) hx hb dX5_read_15 (by decide) (fun hc33 => ?_) (fun hc33 => ?_)
        · have hs := ww_T hs hc33
          refine lv_iconst (v := 0) hx hb dX5_read_22 (by decide) ?_
          exact hL23 L σ29 (0 : Int32) _ _ _ _ ls hx0 hcs hrm hW (lv_sub hl [0] rfl) hs
        · have hs := ww_F hs hc33
          refine lv_iconst (v := 1) hx hb dX5_read_18 (by decide) ?_
          refine lv_goto (tgt := 23) hx hb dX5_read_19 (by decide) ?_
          exact hL23 L σ29 (1 : Int32) _ _ _ _ ls hx0 hcs hrm hW (lv_sub hl [0] rfl) hs
  exact hL0 fu_ L σ _ _ _ _ ls hx0 hcs hrm hW (lv_sub hl [0] rfl) hs
