set_option maxRecDepth 100000
/-! ===== the law's start: the two made, the long, the loop ===== -/
theorem sole_100 : sole_ 100 := sole_of (Nat.le_of_ble_eq_true rfl) rfl (by decide +kernel) (by decide +kernel)
def σE_ : st_T := (fun _ _ _ => 0, fun _ _ _ => 0, fun _ _ _ => 0, fun _ => 0, 0)
theorem pr_E {r i : Nat} (h : pr σE_ r i) : False := by
  unfold pr at h
  have e : gN_ σE_ (ow_ r) = 0 := rfl
  rw [e, Nat.mul_zero] at h
  omega
theorem wv_start {g : wg_T} {s : State} (hg : gs g s s.heap) (hz : gz g = s.heap.size) (L : ly_T) : wv (rw_ g) L σE_ s s.heap [] :=
  ⟨hg, ⟨fun r i h => (pr_E h).elim, fun r i r' i' h _ _ => (pr_E h).elim, fun r i h => (pr_E h).elim, fun z => by cases z⟩, va_S.rf, by show gz g ≤ _; rw [hz]; exact Nat.le_refl _⟩
set_option maxHeartbeats 8000000 in
theorem whole_of {p : Program} {e : Env} {s : State} {m : MethodId} {below : List Frame} {meth : Method} {c : Code} (l : Launch) (hflags : l.flags = flags0) {b N : Nat} {xs : Nat → Int32} (C0 : lw_At p s m meth c b N xs)
    {σ1 σ2 σ3 σ4 σ5 σ_ : st_T} (e1 : σ1 = nO_ σE_ 1 0 39) (h2 : m_X1_init σ1 = some σ2) (e3 : σ3 = nO_ σ2 109 0 107) (h4 : m_X10_init σ3 = some σ4) (e5 : σ5 = nA_ σ4 100 1) (n2 : gN_ σ2 109 = 0) (n4 : gN_ σ4 100 = 0) (o4 : gO_ σ4 = 0) (r5 : rdy σ5)
    (m12 : cu_ σ1 ≤ cu_ σ2 ∧ su_ σ1 ≤ su_ σ2) (m34 : cu_ σ3 ≤ cu_ σ4 ∧ su_ σ3 ≤ su_ σ4) (b5 : cu_ σ5 ≤ 1200384 ∧ su_ σ5 ≤ 5487786) (h6 : m_L_law_L23 N xs fu_ σ5 0 = some (1, σ_)) (b6 : cu_ σ_ ≤ 1200384 ∧ su_ σ_ ≤ 5487786) :
    W p l e room_1 s m #[Value.ref b] below meth c s.heap [] 0 0 (lw_Z below #[Value.ref b] s) (entryFrame m ([Value.ref b] : List Value).toArray 7) := by
  have hst : l.stackTraces = false := by
    unfold Launch.stackTraces
    rw [hflags]
    decide +kernel
  obtain ⟨hx, hb, hr, hml, hown, hts0, hX, hbl, hlocks, hgv⟩ := id C0
  obtain ⟨g, hgm, hgz, hg⟩ := gs_start C0
  have hts : ∀ w ∈ lw_all, w.before #[Value.ref b] s = true := fun w h => hts0 w (lw_all_tbl h)
  obtain ⟨L0, hL0⟩ : ∃ L0 : ly_T, L0 = fun _ _ => 0 := ⟨_, rfl⟩
  have hW := wv_start hg hgz L0
  have hl := lv_entry ([.ref b]) (n := 7) (Nat.le_of_ble_eq_true rfl)
  rw [lg_entry_eq]
  generalize (lg_sl ([.ref b]) ++ List.replicate (7 - (lg_sl ([.ref b])).length) Slot.unset).toArray = ls at hl ⊢
  have hl : lv_has ls 7 [(0, .ref b)] := hl
  -- the counts
  have c1 : cu_ σ1 = 1 ∧ su_ σ1 = 39 := by rw [e1]; exact ⟨rfl, rfl⟩
  have c3 : cu_ σ3 = cu_ σ2 + 1 ∧ su_ σ3 = su_ σ2 + 107 := by rw [e3]; exact ⟨rfl, rfl⟩
  have c5 : cu_ σ5 = cu_ σ4 + 1 ∧ su_ σ5 = su_ σ4 + 1 := by rw [e5]; exact ⟨rfl, rfl⟩
  have cE : cu_ σE_ = 0 ∧ su_ σE_ = 0 := ⟨rfl, rfl⟩
  obtain ⟨c1a, c1b⟩ := c1
  obtain ⟨c3a, c3b⟩ := c3
  obtain ⟨c5a, c5b⟩ := c5
  obtain ⟨cEa, cEb⟩ := cE
  obtain ⟨m12a, m12b⟩ := m12
  obtain ⟨m34a, m34b⟩ := m34
  obtain ⟨b5a, b5b⟩ := b5
  have rc : room_1.cells = 1200384 := rfl
  have rs : room_1.slots = 5487786 := rfl
  -- the component
  refine ww_newo (g := rw_ g) (ci := 0) hx hb hts in_X1 tyX1 tyX1_ok hown (hts _ q153) (hts _ q154) (hts _ q111) hW 1 0 (obv_0 rfl) rfl df_1 (Nat.le_of_ble_eq_true rfl) rfl sole_1 (Or.inr rfl) (Or.inl rfl) (by rw [rc]; omega) (by rw [rs]; omega) dL_law_0 (fun H L1 hx1 hW => ?_)
  rw [← e1] at hx1 hW
  rw [show gN_ σE_ (ow_ 1) = 0 from rfl]
  have hp1 : pr σ1 1 0 := by rw [e1]; exact Nat.le_of_ble_eq_true rfl
  refine lv_dup hx hb dL_law_3 rfl ?_
  refine wa_cv (va_runI (As := []) (rest := [.ref (L1 1 0)]) ⟨hx, hb, hml, hown, hts⟩ (c_X1_init (rw_ g) rfl l L1 σ1 σ2 h2) (cwI 0 hts (lw_meth q157) rfl rfl rfl (hts _ q111) (hts _ q155) (hts _ q156) rfl hd_X1_init.2 ⟨Nat.le_of_ble_eq_true rfl, Nat.le_of_ble_eq_true rfl⟩) (ww_preS hW) rfl rfl hl.1 rfl (lv_room (Nat.le_of_ble_eq_true rfl)) dL_law_4 ⟨by rw [rc]; omega, by rw [rs]; omega⟩) hW (fun H locs L2 hx2 hW => ?_)
  refine ww_stk (st1 := [.ref (L2 1 0)]) (by rw [hx2.at hp1 (by decide)]) ?_
  have hp2 : pr σ2 1 0 := by
    have h9 := hx2.2.1 1
    have h8 : gN_ σ1 1 = 1 := by rw [e1]; rfl
    show 0 < 1 * gN_ σ2 1
    omega
  refine lv_astore_n (lv' := [(1, .ref (L2 1 0)), (0, .ref b)]) hx hb dL_law_7 rfl hl (by decide) rfl (fun ls hl => ?_)
  -- the model
  refine ww_newo (g := rw_ g) (ci := 12) hx hb hts in_X10 tyX10 tyX10_ok hown (hts _ q1675) (hts _ q1676) (hts _ q123) hW 109 0 (obv_0 rfl) rfl df_109 (Nat.le_of_ble_eq_true rfl) rfl sole_109 (Or.inr rfl) (Or.inl rfl) (by rw [rc]; omega) (by rw [rs]; omega) dL_law_8 (fun H L3 hx3 hW => ?_)
  rw [← e3] at hx3 hW
  rw [show gN_ σ2 (ow_ 109) = 0 from n2]
  have hl : lv_has ls 7 [(1, .ref (L3 1 0)), (0, .ref b)] := by rw [hx3.at hp2 (by decide)]; exact hl
  have hp3 : pr σ3 1 0 := by
    have h9 := hx3.2.1 1
    have h8 : 0 < 1 * gN_ σ2 1 := hp2
    show 0 < 1 * gN_ σ3 1
    omega
  have hm3 : pr σ3 109 0 := by
    have h8 : gN_ σ3 109 = gN_ σ2 109 + 1 := by rw [e3]; rfl
    show 0 < 1 * gN_ σ3 109
    omega
  refine lv_dup hx hb dL_law_11 rfl ?_
  refine wa_cv (va_runI (As := []) (rest := [.ref (L3 109 0)]) ⟨hx, hb, hml, hown, hts⟩ (c_X10_init (rw_ g) rfl l L3 σ3 σ4 h4) (cwI 0 hts (lw_meth q1679) rfl rfl rfl (hts _ q123) (hts _ q1677) (hts _ q1678) rfl hd_X10_init.2 ⟨Nat.le_of_ble_eq_true rfl, Nat.le_of_ble_eq_true rfl⟩) (ww_preS hW) rfl rfl hl.1 rfl (lv_room (Nat.le_of_ble_eq_true rfl)) dL_law_12 ⟨by rw [rc]; omega, by rw [rs]; omega⟩) hW (fun H locs L4 hx4 hW => ?_)
  have hl : lv_has ls 7 [(1, .ref (L4 1 0)), (0, .ref b)] := by rw [hx4.at hp3 (by decide)]; exact hl
  refine ww_stk (st1 := [.ref (L4 109 0)]) (by rw [hx4.at hm3 (by decide)]) ?_
  have hp4 : pr σ4 1 0 := by
    have h9 := hx4.2.1 1
    have h8 : 0 < 1 * gN_ σ3 1 := hp3
    show 0 < 1 * gN_ σ4 1
    omega
  have hm4 : pr σ4 109 0 := by
    have h9 := hx4.2.1 109
    have h8 : 0 < 1 * gN_ σ3 109 := hm3
    show 0 < 1 * gN_ σ4 109
    omega
  refine lv_astore_n (lv' := [(2, .ref (L4 109 0)), (1, .ref (L4 1 0)), (0, .ref b)]) hx hb dL_law_15 rfl hl (by decide) rfl (fun ls hl => ?_)
  refine lv_iconst (v := 1) hx hb dL_law_16 (by decide) ?_
  -- the long
  refine ww_newJ (g := rw_ g) hx hb (hts _ q2508) hW sole_100 o4 rfl rfl (by rw [rc]; omega) (by rw [rs]; omega) dL_law_17 (fun H L5 hx5 hW => ?_)
  rw [← e5] at hx5 hW
  rw [n4]
  have hl : lv_has ls 7 [(2, .ref (L5 109 0)), (1, .ref (L5 1 0)), (0, .ref b)] := by rw [hx5.at hp4 (by decide), hx5.at hm4 (by decide)]; exact hl
  have hW := hW.ready r5
  refine lv_astore_n (lv' := [(3, .ref (L5 100 0)), (2, .ref (L5 109 0)), (1, .ref (L5 1 0)), (0, .ref b)]) hx hb dL_law_19 rfl hl (by decide) rfl (fun ls hl => ?_)
  refine lv_iconst (v := 0) hx hb dL_law_20 (by decide) ?_
  refine lv_istore (lv' := [(4, .int 0), (3, .ref (L5 100 0)), (2, .ref (L5 109 0)), (1, .ref (L5 1 0)), (0, .ref b)]) hx hb dL_law_21 hl (by decide) rfl (fun ls hl => ?_)
  exact law_loop (g := g) hgm hst hx hb hr hml hlocks hown hts hX hbl (by rw [hgz]; omega) (by rw [hgz]; exact Nat.le_refl _) L0 σE_ σ_ 1 ⟨by omega, by omega⟩ rfl fu_ L5 σ5 0 _ _ _ _ ls ((((hx1.trans hx2).trans hx3).trans hx4).trans hx5) ⟨⟨by omega, by omega⟩, by omega, by omega⟩ ⟨by omega, by omega⟩ hW (lv_sub hl [4, 3, 2, 1, 0] rfl) h6
