set_option maxRecDepth 100000
abbrev alg_ (σ : st_T) (r d i : Nat) (j : Int32) : Prop := ¬ j < 0 ∧ j < gF_ σ r 2 i ∧ ¬ gP_ σ r 1 i = 0 ∧ i < mu_ d * gN_ σ (ow_ d) ∧ j.toNatClampNeg < gP_ σ d 0 i ∧ j.toNatClampNeg < gP_ σ d 1 i
abbrev acp_ (sp dp n : Int32) (a b : Nat) : Prop := ¬ sp < 0 ∧ ¬ dp < 0 ∧ ¬ n < 0 ∧ sp.toNatClampNeg + n.toNatClampNeg ≤ a ∧ dp.toNatClampNeg + n.toNatClampNeg ≤ b
theorem copy_new {g : wg_T} {L : ly_T} {σ : st_T} {r i n : Nat} {ty : Nat} {f : Nat → Int32} (h0 : wE g L σ r i = .inl (gC g ty, n, .inl (gA_ σ r i))) (h1 : wE g L (sA_ σ r i f) r i = .inl (gC g ty, n, .inl (gA_ (sA_ σ r i f) r i))) : wE g L (sA_ σ r i f) r i = .inl (gC g ty, n, .inl f) := by
  rw [h1, gA_sA, if_pos ⟨rfl, rfl⟩]
theorem pr_mul {σ : st_T} {r i o M : Nat} {j : Int32} (h : i < gN_ σ o) (hj : vp_in j M) (ho : ow_ r = o) (hm : mu_ r = M) : pr σ r (M * i + j.toNatClampNeg) := by
  unfold pr
  rw [ho, hm]
  have h1 : j.toNatClampNeg < M := Nat.not_le.mp fun q => hj (Or.inr q)
  calc M * i + j.toNatClampNeg < M * i + M := by omega
    _ = M * (i + 1) := by rw [Nat.mul_add, Nat.mul_one]
    _ ≤ M * gN_ σ o := Nat.mul_le_mul_left M h
section
variable {p : Program} {l : Launch} {e : Env} {R : Room} {s : State} {m : MethodId} {args : Array Value} {below : List Frame} {meth : Method} {c : Code} {H : Heap} {locs : List Loc} {cells slots : Nat} {Q : State → Prop}
variable {cc : ByteArray} {pc : Nat} {ls : Array Slot} {rest : List Value} {g : wg_T} {L : ly_T} {σ : st_T}
theorem ww_aaldL (hexec : p.tables.exec = Jvm.exec) (hb : c.code = cc) (hW : wv g L σ s H locs) (r i : Nat) {q n : Nat} (hpr : pr σ r i) (hr : rK r = (5, q, n)) {j : Int32} (h0 : ¬ j < 0) (h1 : j.toNatClampNeg < gP_ σ r 0 i) (h2 : j.toNatClampNeg < gP_ σ r 1 i) (hdg : decode cc pc = .ok (.aaload, 1))
    (kk : W p l e R s m args below meth c H locs cells slots Q (F0 m (pc + 1) ls (.ref (L q (gP_ σ r (2 + j.toNatClampNeg) i)) :: rest))) : W p l e R s m args below meth c H locs cells slots Q (F0 m pc ls (.int j :: .ref (L r i) :: rest)) := by
  have hP := (hW.2.1.1 r i hpr).1
  rw [wE_5 hr] at hP
  exact W.aald (v := .ref (L q (gP_ σ r (2 + j.toNatClampNeg) i))) (ty := .object "java/lang/Object") hexec hb hP ((hW.1.1.2 6 _ rfl).1 (gP_ σ r 0 i) (fun j => va_rf (if j < gP_ σ r 1 i then some (L q (gP_ σ r (2 + j) i)) else none))) rfl (fun q => by cases q) (by show ¬ (j < 0 ∨ (arrV _ _ _).slots.size ≤ _); rw [arrV_size]; exact fun q => q.elim h0 (fun z => absurd h1 (Nat.not_lt.mpr z))) (by show (arrV _ _ _).slots[_]? = _; rw [arrV_read _ _ h1]; show some (va_rf (if j.toNatClampNeg < gP_ σ r 1 i then _ else _)) = _; rw [if_pos h2]; rfl) rfl rfl hdg kk
theorem ww_acmp (hexec : p.tables.exec = Jvm.exec) (hb : c.code = cc) (hW : wv g L σ s H locs) {r i j : Nat} {off : Int} {tgt : Nat} (hi : pr σ r i) (hj : pr σ r j) (hdg : decode cc pc = .ok (.if_acmp .ne off, 3)) (ht : (pc : Int) + off = (tgt : Int))
    (kt : ¬ i = j → W p l e R s m args below meth c H locs cells slots Q (F0 m tgt ls rest)) (kf : i = j → W p l e R s m args below meth c H locs cells slots Q (F0 m (pc + 3) ls rest)) : W p l e R s m args below meth c H locs cells slots Q (F0 m pc ls (.ref (L r j) :: .ref (L r i) :: rest)) :=
  lv_acmp_ne (rx := some (L r i)) (ry := some (L r j)) hexec hb hdg ht (fun h => kt (fun z => h (by rw [z]))) (fun h => kf (hW.2.1.2.1 r i r j hi hj (Option.some.inj h)).2)
end
theorem hd_J2_size : yJ2_size.cls = RJ2 ∧ yJ2_size.cls ≠ "java/lang/invoke/MethodHandle" ∧ yJ2_size.cls ≠ "java/lang/invoke/VarHandle" ∧ (parseMethodDescriptor yJ2_size.desc).map (fun d => d.parameters.length) = some 0 := by decide +kernel
theorem hd_J2_get : yJ2_get.cls = RJ2 ∧ yJ2_get.cls ≠ "java/lang/invoke/MethodHandle" ∧ yJ2_get.cls ≠ "java/lang/invoke/VarHandle" ∧ (parseMethodDescriptor yJ2_get.desc).map (fun d => d.parameters.length) = some 1 := by decide +kernel
theorem hd_J2_elementData : yJ2_elementData.cls = RJ2 ∧ yJ2_elementData.cls ≠ "java/lang/invoke/MethodHandle" ∧ yJ2_elementData.cls ≠ "java/lang/invoke/VarHandle" ∧ (parseMethodDescriptor yJ2_elementData.desc).map (fun d => d.parameters.length) = some 1 := by decide +kernel
theorem hd_J10_checkIndex : yJ10_checkIndex.cls = RJ10 ∧ yJ10_checkIndex.cls ≠ "java/lang/invoke/MethodHandle" ∧ yJ10_checkIndex.cls ≠ "java/lang/invoke/VarHandle" ∧ (parseMethodDescriptor yJ10_checkIndex.desc).map (fun d => d.parameters.length) = some 2 := by decide +kernel
theorem hd_J11_checkIndex : yJ11_checkIndex.cls = RJ11 ∧ yJ11_checkIndex.cls ≠ "java/lang/invoke/MethodHandle" ∧ yJ11_checkIndex.cls ≠ "java/lang/invoke/VarHandle" ∧ (parseMethodDescriptor yJ11_checkIndex.desc).map (fun d => d.parameters.length) = some 3 := by decide +kernel
theorem c_AL_size (g : wg_T) (hgm : gm g = true) (l : Launch) (L : ly_T) (σ : st_T) (r i d : Nat) (hr : rK r = (0, 4, 0)) (hf : fk_ r = [(0, 0, 0), (4, d, 0), (0, 0, 0)]) (hp : pr σ r i) : CI g l yJ2_size (ws_ yJ2_size cJ2_size 1 (some .int)) 2 60 0 0 [.ref (L r i)] L σ (gF_ σ r 2 i) σ := by
  refine wbody.met (by decide) (Nat.le_of_ble_eq_true rfl) ?_
  intro p e s m args below meth c ls hx hb hr' hml hlocks hts hown hnm hW hl
  have hown : s.vm.findClass RJ2 = some m.cls := hown
  have hl : lv_has ls 1 [(0, .ref (L r i))] := hl
  refine lv_aload_n hx hb dJ2_size_0 rfl (lv_at hl 0 rfl) ?_
  refine ww_get (d := (0, 0, 0)) hx hb hts hown hW r i 2 hp (obv_0 hr) (by rw [hf]; rfl) in_J2 rfl (by decide) (hts _ q254) (fun _ h => h) dJ2_size_1 ?_
  exact we_i hx hb hr' hlocks hW rfl rfl (Nat.le_refl _) (Nat.le_refl _) dJ2_size_4
theorem c_J11_checkIndex (g : wg_T) (hgm : gm g = true) (l : Launch) (L : ly_T) (σ : st_T) (i n : Int32) (q : Option Nat) (h0 : ¬ i < 0) (h1 : i < n) : CI g l yJ11_checkIndex (ws_ yJ11_checkIndex cJ11_checkIndex 3 (some .int)) 2 60 0 0 [.int i, .int n, va_rf q] L σ i σ := by
  refine wbody.met (by decide) (by cases q <;> exact (Nat.le_of_ble_eq_true rfl)) ?_
  intro p e s m args below meth c ls hx hb hr' hml hlocks hts hown hnm hW hl
  have hl : lv_has ls 3 [(0, .int i), (1, .int n), (2, va_rf q)] := hl
  refine lv_iload_n hx hb dJ11_checkIndex_0 rfl (lv_at hl 0 rfl) ?_
  refine lv_if_lt (tgt := 9) hx hb dJ11_checkIndex_1 (by decide) (fun h => absurd h h0) (fun _ => ?_)
  refine lv_iload_n hx hb dJ11_checkIndex_4 rfl (lv_at hl 0 rfl) ?_
  refine lv_iload_n hx hb dJ11_checkIndex_5 rfl (lv_at hl 1 rfl) ?_
  refine lv_icmp_lt (tgt := 16) hx hb dJ11_checkIndex_6 (by decide) (fun _ => ?_) (fun h => absurd h1 h)
  refine lv_iload_n hx hb dJ11_checkIndex_16 rfl (lv_at hl 0 rfl) ?_
  exact we_i hx hb hr' hlocks hW rfl rfl (Nat.le_refl _) (Nat.le_refl _) dJ11_checkIndex_17
theorem c_J10_checkIndex (g : wg_T) (hgm : gm g = true) (l : Launch) (L : ly_T) (σ : st_T) (i n : Int32) (h0 : ¬ i < 0) (h1 : i < n) : CI g l yJ10_checkIndex (ws_ yJ10_checkIndex cJ10_checkIndex 2 (some .int)) 3 90 0 0 [.int i, .int n] L σ i σ := by
  refine wbody.met (by decide) (Nat.le_of_ble_eq_true rfl) ?_
  intro p e s m args below meth c ls hx hb hr' hml hlocks hts hown hnm hW hl
  have hown : s.vm.findClass RJ10 = some m.cls := hown
  have hl : lv_has ls 2 [(0, .int i), (1, .int n)] := hl
  refine lv_iload_n hx hb dJ10_checkIndex_0 rfl (lv_at hl 0 rfl) ?_
  refine lv_iload_n hx hb dJ10_checkIndex_1 rfl (lv_at hl 1 rfl) ?_
  refine lv_null hx hb dJ10_checkIndex_2 ?_
  refine ww_ci (va_runS (As := [.int i, .int n, .null]) (rest := []) ⟨hx, hb, hml, hown, hts⟩ (c_J11_checkIndex g hgm l L σ i n none h0 h1) (va_cwS 3 hts (lw_S q525 q526 q132 q527) rfl rfl rfl hd_J11_checkIndex.2 ⟨Nat.le_of_ble_eq_true rfl, Nat.le_of_ble_eq_true rfl⟩) (ww_preS hW) rfl rfl hl.1 rfl (lv_room (Nat.le_of_ble_eq_true rfl)) dJ10_checkIndex_3 ⟨Nat.le_of_ble_eq_true rfl, Nat.le_of_ble_eq_true rfl⟩) hW (fun H locs hW => ?_)
  exact we_i hx hb hr' hlocks hW rfl rfl (Nat.le_refl _) (Nat.le_refl _) dJ10_checkIndex_6
theorem c_J2_elementData (g : wg_T) (hgm : gm g = true) (l : Launch) (L : ly_T) (σ : st_T) (r i d q : Nat) (j : Int32) (hr : rK r = (0, 4, 0)) (hf : fk_ r = [(0, 0, 0), (4, d, 0), (0, 0, 0)]) (hd : rK d = (5, q, 0)) (hp : pr σ r i) (ha : alg_ σ r d i j) : CR g l yJ2_elementData (ws_ yJ2_elementData cJ2_elementData 2 (some (.object "java/lang/Object"))) 2 60 0 0 [.ref (L r i), .int j] L σ (L q (gP_ σ d (2 + j.toNatClampNeg) i)) σ := by
  refine wbody.met (by decide) (Nat.le_of_ble_eq_true rfl) ?_
  intro p e s m args below meth c ls hx hb hr' hml hlocks hts hown hnm hW hl
  have hown : s.vm.findClass RJ2 = some m.cls := hown
  have hl : lv_has ls 2 [(0, .ref (L r i)), (1, .int j)] := hl
  refine lv_aload_n hx hb dJ2_elementData_0 rfl (lv_at hl 0 rfl) ?_
  refine ww_get (d := (4, d, 0)) hx hb hts hown hW r i 1 hp (obv_0 hr) (by rw [hf]; rfl) in_J2 rfl (by decide) (hts _ q253) (fun _ h => h) dJ2_elementData_1 ?_
  have e1 : fv g L σ r i 1 (4, d, 0) = .ref (L d i) := by
    have h91 : r ≠ 91 := fun z => by rw [z] at hr; cases hr
    rw [fv_p (fun z => by cases z) (hW.fl hgm hp 1 h91 (by rw [hf]; rfl) (fun z => by cases z))]
    show Value.ref (if gP_ σ r 1 i = 0 then ge g else L d i) = _
    rw [if_neg ha.2.2.1]
  rw [e1]
  refine lv_iload_n hx hb dJ2_elementData_4 rfl (lv_at hl 1 rfl) ?_
  refine ww_aaldL hx hb hW d i ha.2.2.2.1 hd ha.1 ha.2.2.2.2.1 ha.2.2.2.2.2 dJ2_elementData_5 ?_
  exact we_r hx hb hr' hlocks hW rfl rfl (Nat.le_refl _) (Nat.le_refl _) dJ2_elementData_6
theorem c_AL_get (g : wg_T) (hgm : gm g = true) (l : Launch) (L : ly_T) (σ : st_T) (r i d q : Nat) (j : Int32) (hr : rK r = (0, 4, 0)) (hf : fk_ r = [(0, 0, 0), (4, d, 0), (0, 0, 0)]) (hd : rK d = (5, q, 0)) (hp : pr σ r i) (ha : alg_ σ r d i j) : CR g l yJ2_get (ws_ yJ2_get cJ2_get 2 (some (.object "java/lang/Object"))) 4 120 0 0 [.ref (L r i), .int j] L σ (L q (gP_ σ d (2 + j.toNatClampNeg) i)) σ := by
  refine wbody.met (by decide) (Nat.le_of_ble_eq_true rfl) ?_
  intro p e s m args below meth c ls hx hb hr' hml hlocks hts hown hnm hW hl
  have hown : s.vm.findClass RJ2 = some m.cls := hown
  have hl : lv_has ls 2 [(0, .ref (L r i)), (1, .int j)] := hl
  refine lv_iload_n hx hb dJ2_get_0 rfl (lv_at hl 1 rfl) ?_
  refine lv_aload_n hx hb dJ2_get_1 rfl (lv_at hl 0 rfl) ?_
  refine ww_get (d := (0, 0, 0)) hx hb hts hown hW r i 2 hp (obv_0 hr) (by rw [hf]; rfl) in_J2 rfl (by decide) (hts _ q254) (fun _ h => h) dJ2_get_2 ?_
  refine ww_ci (va_runS (As := [.int j, .int (gF_ σ r 2 i)]) (rest := []) ⟨hx, hb, hml, hown, hts⟩ (c_J10_checkIndex g hgm l L σ j (gF_ σ r 2 i) ha.1 ha.2.1) (va_cwS 2 hts (lw_S q522 q523 q131 q524) rfl rfl rfl hd_J10_checkIndex.2 ⟨Nat.le_of_ble_eq_true rfl, Nat.le_of_ble_eq_true rfl⟩) (ww_preS hW) rfl rfl hl.1 rfl (lv_room (Nat.le_of_ble_eq_true rfl)) dJ2_get_5 ⟨Nat.le_of_ble_eq_true rfl, Nat.le_of_ble_eq_true rfl⟩) hW (fun H locs hW => ?_)
  refine lv_pop hx hb dJ2_get_8 rfl ?_
  refine lv_aload_n hx hb dJ2_get_9 rfl (lv_at hl 0 rfl) ?_
  refine lv_iload_n hx hb dJ2_get_10 rfl (lv_at hl 1 rfl) ?_
  refine ww_cr (va_runV (As := [.int j]) (rest := []) ⟨hx, hb, hml, hown, hts⟩ (c_J2_elementData g hgm l L σ r i d q j hr hf hd hp ha) (cwV 1 hts (lw_V q528 q529 q530 q117 q531) rfl rfl rfl hd_J2_elementData ⟨Nat.le_of_ble_eq_true rfl, Nat.le_of_ble_eq_true rfl⟩) (ww_preV hW hp (obv_0 hr) rfl) rfl rfl hl.1 rfl (lv_room (Nat.le_of_ble_eq_true rfl)) dJ2_get_11 ⟨Nat.le_of_ble_eq_true rfl, Nat.le_of_ble_eq_true rfl⟩) hW (fun H locs hW => ?_)
  exact we_r hx hb hr' hlocks hW rfl rfl (Nat.le_refl _) (Nat.le_refl _) dJ2_get_14
