set_option maxRecDepth 100000
/-! ===== formulas: calls by interface, of an abstract method ===== -/
def fvw (t : Nat) : List Cond := match t with
  | 0 => ws_ yX9_value cX9_value 2 (some .int)
  | 1 => ws_ yX8_value cX8_value 2 (some .int)
  | 2 => ws_ yX6_value cX6_value 3 (some .int)
  | 3 => ws_ yX6_value cX6_value 3 (some .int)
  | 4 => ws_ yX6_value cX6_value 3 (some .int)
  | 5 => ws_ yX6_value cX6_value 3 (some .int)
  | 6 => ws_ yX13_value cX13_value 2 (some .int)
  | _ => []
def ofw (t : Nat) : List Cond := match t with
  | 2 => ws_ yX7_of cX7_of 3 (some .int)
  | 3 => ws_ yX14_of cX14_of 3 (some .int)
  | 4 => ws_ yX15_of cX15_of 3 (some .int)
  | 5 => ws_ yX12_of cX12_of 3 (some .int)
  | _ => []
def ofY (t : Nat) : MethodName := match t with
  | 2 => yX7_of
  | 3 => yX14_of
  | 4 => yX15_of
  | 5 => yX12_of
  | _ => yX7_of
/-- the formula i is worth r: its own method says so -/
def FV (g : wg_T) (l : Launch) (i : Nat) (L : ly_T) (σ : st_T) (r : Int32) (fr lo : Nat) : Prop := ∃ t fr1 lo1 : Nat, fr1 ≤ fr ∧ lo1 ≤ lo ∧ t < 7 ∧ gP_ σ 91 199 i = t ∧ CI g l (fmY t) (fvw t) fr1 lo1 0 0 [.ref (L 91 i), .ref (L 29 0)] L σ r σ
def OFC (g : wg_T) (l : Launch) (i : Nat) (L : ly_T) (σ : st_T) (x y r : Int32) : Prop := ∃ t : Nat, (t = 2 ∨ t = 3 ∨ t = 4 ∨ t = 5) ∧ gP_ σ 91 199 i = t ∧ CI g l (ofY t) (ofw t) 2 60 0 0 [.ref (L 91 i), .int x, .int y] L σ r σ
theorem lw_4 {a b c d : Cond} (h1 : a ∈ lw_all) (h2 : b ∈ lw_all) (h3 : c ∈ lw_all) (h4 : d ∈ lw_all) : ∀ w ∈ [a, b, c, d], w ∈ lw_all := by
  intro w h
  simp only [List.mem_cons, List.not_mem_nil, or_false] at h
  rcases h with rfl | rfl | rfl | rfl <;> assumption
theorem lw_5 {a b c d e : Cond} (h1 : a ∈ lw_all) (h2 : b ∈ lw_all) (h3 : c ∈ lw_all) (h4 : d ∈ lw_all) (h5 : e ∈ lw_all) : ∀ w ∈ [a, b, c, d, e], w ∈ lw_all := by
  intro w h
  simp only [List.mem_cons, List.not_mem_nil, or_false] at h
  rcases h with rfl | rfl | rfl | rfl | rfl <;> assumption
section
variable {p : Program} {l : Launch} {e : Env} {R : Room} {s : State} {m : MethodId} {args : Array Value} {below : List Frame} {meth : Method} {c : Code} {H : Heap} {locs : List Loc} {cells slots : Nat} {a : Array Value} {st0 : List Value} {mc ms nL : Nat} {i : Nat} {r x y : Int32} {fr lo : Nat} {σ' : st_T} {Q : State → Prop} {cc : ByteArray} {pc : Nat} {ls : Array Slot} {rest : List Value} {g : wg_T} {L : ly_T} {σ : st_T}
theorem ww_ci5 {v : Int32} (hr : va_Run5 p l e R s m args below meth c H locs cells slots mc ms (F0 m pc ls st0) rest (wQi g L v σ' a) (fun q => gz g ≤ q)) (hW : wv g L σ s H locs)
    (kk : ∀ (H1 : Heap) (locs1 : List Loc), wv g L σ' s H1 locs1 → W p l e R s m args below meth c H1 locs1 (cells + mc) (slots + ms) Q (F0 m (pc + 5) ls (.int v :: rest))) : W p l e R s m args below meth c H locs cells slots Q (F0 m pc ls st0) := by
  refine va_callFi hr hW.2.2.1 (fun q _ h => h) (fun q h => h) (fun r u t H1 locs1 ht hvm hp hB hz hk hS => ?_)
  have hp : r = v := hp
  rw [hp]
  exact kk H1 locs1 (hW.back ht hB hS)
theorem fi_X1 (S : CallFix p m c cc nL s args lw_all RX1) (hW : wv g L σ s H locs) (hpr : pr σ 91 i) (hM : FV g l i L σ r fr lo) (hR : fr + 1 ≤ R.frames ∧ 30 + lo ≤ R.locals) (hls : ls.size = nL) (hrest : 2 * (F0 m pc ls rest).monitorRoom + (rest.map fun v => v.category).sum ≤ 8) (hdg : decode cc pc = .ok (.invokeinterface 426 2, 5)) (hf : cells + 0 ≤ R.cells ∧ slots + 0 ≤ R.slots)
    (kk : ∀ (H1 : Heap) (locs1 : List Loc), wv g L σ s H1 locs1 → W p l e R s m args below meth c H1 locs1 (cells + 0) (slots + 0) Q (F0 m (pc + 5) ls (.int r :: rest))) : W p l e R s m args below meth c H locs cells slots Q (F0 m pc ls (.ref (L 29 0) :: .ref (L 91 i) :: rest)) := by
  obtain ⟨t, fr1, lo1, h1, h2, h3, ht, hM⟩ := hM
  have hts := S.2.2.2.2
  obtain ⟨hR1, hR2⟩ := hR
  have h3 : t = 0 ∨ t = 1 ∨ t = 2 ∨ t = 3 ∨ t = 4 ∨ t = 5 ∨ t = 6 := by omega
  rcases h3 with rfl | rfl | rfl | rfl | rfl | rfl | rfl
  · exact ww_ci5 (va_runF (x := fmX) (y := yX9_value) (C := RX9) (As := [.ref (L 29 0)]) (rest := rest) (hW.1.1.1 13 _ rfl).2 S hM (va_cwF 1 hts (lw_app (lw_4 q1422 q1454 q1456 q122) (lw_meth q1458)) rfl rfl rfl (hW.1.2.2.2.2.2.2.2.2.2.2.2.2.1 0 (by decide)) ⟨by decide, by decide, by decide +kernel⟩ ⟨by show fr1 + 1 ≤ R.frames; omega, by show 8 + (2 + 11) + lo1 ≤ R.locals; omega⟩) (ww_preV hW hpr (obv_6 rfl ht) rfl) rfl rfl hls rfl hrest hdg ⟨hf.1, hf.2⟩) hW kk
  · exact ww_ci5 (va_runF (x := fmX) (y := yX8_value) (C := RX8) (As := [.ref (L 29 0)]) (rest := rest) (hW.1.1.1 14 _ rfl).2 S hM (va_cwF 1 hts (lw_app (lw_4 q1422 q1448 q1450 q121) (lw_meth q1452)) rfl rfl rfl (hW.1.2.2.2.2.2.2.2.2.2.2.2.2.1 1 (by decide)) ⟨by decide, by decide, by decide +kernel⟩ ⟨by show fr1 + 1 ≤ R.frames; omega, by show 8 + (2 + 11) + lo1 ≤ R.locals; omega⟩) (ww_preV hW hpr (obv_6 rfl ht) rfl) rfl rfl hls rfl hrest hdg ⟨hf.1, hf.2⟩) hW kk
  · exact ww_ci5 (va_runF (x := fmX) (y := yX6_value) (C := RX7) (As := [.ref (L 29 0)]) (rest := rest) (hW.1.1.1 15 _ rfl).2 S hM (va_cwF 1 hts (lw_app (lw_4 q1422 q1460 q1428 q119) (lw_meth q1430)) rfl rfl rfl (hW.1.2.2.2.2.2.2.2.2.2.2.2.2.1 2 (by decide)) ⟨by decide, by decide, by decide +kernel⟩ ⟨by show fr1 + 1 ≤ R.frames; omega, by show 8 + (3 + 11) + lo1 ≤ R.locals; omega⟩) (ww_preV hW hpr (obv_6 rfl ht) rfl) rfl rfl hls rfl hrest hdg ⟨hf.1, hf.2⟩) hW kk
  · exact ww_ci5 (va_runF (x := fmX) (y := yX6_value) (C := RX14) (As := [.ref (L 29 0)]) (rest := rest) (hW.1.1.1 16 _ rfl).2 S hM (va_cwF 1 hts (lw_app (lw_4 q1422 q1442 q1428 q119) (lw_meth q1430)) rfl rfl rfl (hW.1.2.2.2.2.2.2.2.2.2.2.2.2.1 3 (by decide)) ⟨by decide, by decide, by decide +kernel⟩ ⟨by show fr1 + 1 ≤ R.frames; omega, by show 8 + (3 + 11) + lo1 ≤ R.locals; omega⟩) (ww_preV hW hpr (obv_6 rfl ht) rfl) rfl rfl hls rfl hrest hdg ⟨hf.1, hf.2⟩) hW kk
  · exact ww_ci5 (va_runF (x := fmX) (y := yX6_value) (C := RX15) (As := [.ref (L 29 0)]) (rest := rest) (hW.1.1.1 17 _ rfl).2 S hM (va_cwF 1 hts (lw_app (lw_4 q1422 q1445 q1428 q119) (lw_meth q1430)) rfl rfl rfl (hW.1.2.2.2.2.2.2.2.2.2.2.2.2.1 4 (by decide)) ⟨by decide, by decide, by decide +kernel⟩ ⟨by show fr1 + 1 ≤ R.frames; omega, by show 8 + (3 + 11) + lo1 ≤ R.locals; omega⟩) (ww_preV hW hpr (obv_6 rfl ht) rfl) rfl rfl hls rfl hrest hdg ⟨hf.1, hf.2⟩) hW kk
  · exact ww_ci5 (va_runF (x := fmX) (y := yX6_value) (C := RX12) (As := [.ref (L 29 0)]) (rest := rest) (hW.1.1.1 18 _ rfl).2 S hM (va_cwF 1 hts (lw_app (lw_4 q1422 q1426 q1428 q119) (lw_meth q1430)) rfl rfl rfl (hW.1.2.2.2.2.2.2.2.2.2.2.2.2.1 5 (by decide)) ⟨by decide, by decide, by decide +kernel⟩ ⟨by show fr1 + 1 ≤ R.frames; omega, by show 8 + (3 + 11) + lo1 ≤ R.locals; omega⟩) (ww_preV hW hpr (obv_6 rfl ht) rfl) rfl rfl hls rfl hrest hdg ⟨hf.1, hf.2⟩) hW kk
  · exact ww_ci5 (va_runF (x := fmX) (y := yX13_value) (C := RX13) (As := [.ref (L 29 0)]) (rest := rest) (hW.1.1.1 19 _ rfl).2 S hM (va_cwF 1 hts (lw_app (lw_4 q1422 q1434 q1436 q139) (lw_meth q1438)) rfl rfl rfl (hW.1.2.2.2.2.2.2.2.2.2.2.2.2.1 6 (by decide)) ⟨by decide, by decide, by decide +kernel⟩ ⟨by show fr1 + 1 ≤ R.frames; omega, by show 8 + (2 + 11) + lo1 ≤ R.locals; omega⟩) (ww_preV hW hpr (obv_6 rfl ht) rfl) rfl rfl hls rfl hrest hdg ⟨hf.1, hf.2⟩) hW kk
theorem fi_X6 (S : CallFix p m c cc nL s args lw_all RX6) (hW : wv g L σ s H locs) (hpr : pr σ 91 i) (hM : FV g l i L σ r fr lo) (hR : fr + 1 ≤ R.frames ∧ 30 + lo ≤ R.locals) (hls : ls.size = nL) (hrest : 2 * (F0 m pc ls rest).monitorRoom + (rest.map fun v => v.category).sum ≤ 8) (hdg : decode cc pc = .ok (.invokeinterface 16 2, 5)) (hf : cells + 0 ≤ R.cells ∧ slots + 0 ≤ R.slots)
    (kk : ∀ (H1 : Heap) (locs1 : List Loc), wv g L σ s H1 locs1 → W p l e R s m args below meth c H1 locs1 (cells + 0) (slots + 0) Q (F0 m (pc + 5) ls (.int r :: rest))) : W p l e R s m args below meth c H locs cells slots Q (F0 m pc ls (.ref (L 29 0) :: .ref (L 91 i) :: rest)) := by
  obtain ⟨t, fr1, lo1, h1, h2, h3, ht, hM⟩ := hM
  have hts := S.2.2.2.2
  obtain ⟨hR1, hR2⟩ := hR
  have h3 : t = 0 ∨ t = 1 ∨ t = 2 ∨ t = 3 ∨ t = 4 ∨ t = 5 ∨ t = 6 := by omega
  rcases h3 with rfl | rfl | rfl | rfl | rfl | rfl | rfl
  · exact ww_ci5 (va_runF (x := fmX) (y := yX9_value) (C := RX9) (As := [.ref (L 29 0)]) (rest := rest) (hW.1.1.1 13 _ rfl).2 S hM (va_cwF 1 hts (lw_app (lw_4 q1432 q1454 q1456 q122) (lw_meth q1458)) rfl rfl rfl (hW.1.2.2.2.2.2.2.2.2.2.2.2.2.1 0 (by decide)) ⟨by decide, by decide, by decide +kernel⟩ ⟨by show fr1 + 1 ≤ R.frames; omega, by show 8 + (2 + 11) + lo1 ≤ R.locals; omega⟩) (ww_preV hW hpr (obv_6 rfl ht) rfl) rfl rfl hls rfl hrest hdg ⟨hf.1, hf.2⟩) hW kk
  · exact ww_ci5 (va_runF (x := fmX) (y := yX8_value) (C := RX8) (As := [.ref (L 29 0)]) (rest := rest) (hW.1.1.1 14 _ rfl).2 S hM (va_cwF 1 hts (lw_app (lw_4 q1432 q1448 q1450 q121) (lw_meth q1452)) rfl rfl rfl (hW.1.2.2.2.2.2.2.2.2.2.2.2.2.1 1 (by decide)) ⟨by decide, by decide, by decide +kernel⟩ ⟨by show fr1 + 1 ≤ R.frames; omega, by show 8 + (2 + 11) + lo1 ≤ R.locals; omega⟩) (ww_preV hW hpr (obv_6 rfl ht) rfl) rfl rfl hls rfl hrest hdg ⟨hf.1, hf.2⟩) hW kk
  · exact ww_ci5 (va_runF (x := fmX) (y := yX6_value) (C := RX7) (As := [.ref (L 29 0)]) (rest := rest) (hW.1.1.1 15 _ rfl).2 S hM (va_cwF 1 hts (lw_app (lw_4 q1432 q1460 q1428 q119) (lw_meth q1430)) rfl rfl rfl (hW.1.2.2.2.2.2.2.2.2.2.2.2.2.1 2 (by decide)) ⟨by decide, by decide, by decide +kernel⟩ ⟨by show fr1 + 1 ≤ R.frames; omega, by show 8 + (3 + 11) + lo1 ≤ R.locals; omega⟩) (ww_preV hW hpr (obv_6 rfl ht) rfl) rfl rfl hls rfl hrest hdg ⟨hf.1, hf.2⟩) hW kk
  · exact ww_ci5 (va_runF (x := fmX) (y := yX6_value) (C := RX14) (As := [.ref (L 29 0)]) (rest := rest) (hW.1.1.1 16 _ rfl).2 S hM (va_cwF 1 hts (lw_app (lw_4 q1432 q1442 q1428 q119) (lw_meth q1430)) rfl rfl rfl (hW.1.2.2.2.2.2.2.2.2.2.2.2.2.1 3 (by decide)) ⟨by decide, by decide, by decide +kernel⟩ ⟨by show fr1 + 1 ≤ R.frames; omega, by show 8 + (3 + 11) + lo1 ≤ R.locals; omega⟩) (ww_preV hW hpr (obv_6 rfl ht) rfl) rfl rfl hls rfl hrest hdg ⟨hf.1, hf.2⟩) hW kk
  · exact ww_ci5 (va_runF (x := fmX) (y := yX6_value) (C := RX15) (As := [.ref (L 29 0)]) (rest := rest) (hW.1.1.1 17 _ rfl).2 S hM (va_cwF 1 hts (lw_app (lw_4 q1432 q1445 q1428 q119) (lw_meth q1430)) rfl rfl rfl (hW.1.2.2.2.2.2.2.2.2.2.2.2.2.1 4 (by decide)) ⟨by decide, by decide, by decide +kernel⟩ ⟨by show fr1 + 1 ≤ R.frames; omega, by show 8 + (3 + 11) + lo1 ≤ R.locals; omega⟩) (ww_preV hW hpr (obv_6 rfl ht) rfl) rfl rfl hls rfl hrest hdg ⟨hf.1, hf.2⟩) hW kk
  · exact ww_ci5 (va_runF (x := fmX) (y := yX6_value) (C := RX12) (As := [.ref (L 29 0)]) (rest := rest) (hW.1.1.1 18 _ rfl).2 S hM (va_cwF 1 hts (lw_app (lw_4 q1432 q1426 q1428 q119) (lw_meth q1430)) rfl rfl rfl (hW.1.2.2.2.2.2.2.2.2.2.2.2.2.1 5 (by decide)) ⟨by decide, by decide, by decide +kernel⟩ ⟨by show fr1 + 1 ≤ R.frames; omega, by show 8 + (3 + 11) + lo1 ≤ R.locals; omega⟩) (ww_preV hW hpr (obv_6 rfl ht) rfl) rfl rfl hls rfl hrest hdg ⟨hf.1, hf.2⟩) hW kk
  · exact ww_ci5 (va_runF (x := fmX) (y := yX13_value) (C := RX13) (As := [.ref (L 29 0)]) (rest := rest) (hW.1.1.1 19 _ rfl).2 S hM (va_cwF 1 hts (lw_app (lw_4 q1432 q1434 q1436 q139) (lw_meth q1438)) rfl rfl rfl (hW.1.2.2.2.2.2.2.2.2.2.2.2.2.1 6 (by decide)) ⟨by decide, by decide, by decide +kernel⟩ ⟨by show fr1 + 1 ≤ R.frames; omega, by show 8 + (2 + 11) + lo1 ≤ R.locals; omega⟩) (ww_preV hW hpr (obv_6 rfl ht) rfl) rfl rfl hls rfl hrest hdg ⟨hf.1, hf.2⟩) hW kk
theorem fi_X13 (S : CallFix p m c cc nL s args lw_all RX13) (hW : wv g L σ s H locs) (hpr : pr σ 91 i) (hM : FV g l i L σ r fr lo) (hR : fr + 1 ≤ R.frames ∧ 30 + lo ≤ R.locals) (hls : ls.size = nL) (hrest : 2 * (F0 m pc ls rest).monitorRoom + (rest.map fun v => v.category).sum ≤ 8) (hdg : decode cc pc = .ok (.invokeinterface 19 2, 5)) (hf : cells + 0 ≤ R.cells ∧ slots + 0 ≤ R.slots)
    (kk : ∀ (H1 : Heap) (locs1 : List Loc), wv g L σ s H1 locs1 → W p l e R s m args below meth c H1 locs1 (cells + 0) (slots + 0) Q (F0 m (pc + 5) ls (.int r :: rest))) : W p l e R s m args below meth c H locs cells slots Q (F0 m pc ls (.ref (L 29 0) :: .ref (L 91 i) :: rest)) := by
  obtain ⟨t, fr1, lo1, h1, h2, h3, ht, hM⟩ := hM
  have hts := S.2.2.2.2
  obtain ⟨hR1, hR2⟩ := hR
  have h3 : t = 0 ∨ t = 1 ∨ t = 2 ∨ t = 3 ∨ t = 4 ∨ t = 5 ∨ t = 6 := by omega
  rcases h3 with rfl | rfl | rfl | rfl | rfl | rfl | rfl
  · exact ww_ci5 (va_runF (x := fmX) (y := yX9_value) (C := RX9) (As := [.ref (L 29 0)]) (rest := rest) (hW.1.1.1 13 _ rfl).2 S hM (va_cwF 1 hts (lw_app (lw_4 q1440 q1454 q1456 q122) (lw_meth q1458)) rfl rfl rfl (hW.1.2.2.2.2.2.2.2.2.2.2.2.2.1 0 (by decide)) ⟨by decide, by decide, by decide +kernel⟩ ⟨by show fr1 + 1 ≤ R.frames; omega, by show 8 + (2 + 11) + lo1 ≤ R.locals; omega⟩) (ww_preV hW hpr (obv_6 rfl ht) rfl) rfl rfl hls rfl hrest hdg ⟨hf.1, hf.2⟩) hW kk
  · exact ww_ci5 (va_runF (x := fmX) (y := yX8_value) (C := RX8) (As := [.ref (L 29 0)]) (rest := rest) (hW.1.1.1 14 _ rfl).2 S hM (va_cwF 1 hts (lw_app (lw_4 q1440 q1448 q1450 q121) (lw_meth q1452)) rfl rfl rfl (hW.1.2.2.2.2.2.2.2.2.2.2.2.2.1 1 (by decide)) ⟨by decide, by decide, by decide +kernel⟩ ⟨by show fr1 + 1 ≤ R.frames; omega, by show 8 + (2 + 11) + lo1 ≤ R.locals; omega⟩) (ww_preV hW hpr (obv_6 rfl ht) rfl) rfl rfl hls rfl hrest hdg ⟨hf.1, hf.2⟩) hW kk
  · exact ww_ci5 (va_runF (x := fmX) (y := yX6_value) (C := RX7) (As := [.ref (L 29 0)]) (rest := rest) (hW.1.1.1 15 _ rfl).2 S hM (va_cwF 1 hts (lw_app (lw_4 q1440 q1460 q1428 q119) (lw_meth q1430)) rfl rfl rfl (hW.1.2.2.2.2.2.2.2.2.2.2.2.2.1 2 (by decide)) ⟨by decide, by decide, by decide +kernel⟩ ⟨by show fr1 + 1 ≤ R.frames; omega, by show 8 + (3 + 11) + lo1 ≤ R.locals; omega⟩) (ww_preV hW hpr (obv_6 rfl ht) rfl) rfl rfl hls rfl hrest hdg ⟨hf.1, hf.2⟩) hW kk
  · exact ww_ci5 (va_runF (x := fmX) (y := yX6_value) (C := RX14) (As := [.ref (L 29 0)]) (rest := rest) (hW.1.1.1 16 _ rfl).2 S hM (va_cwF 1 hts (lw_app (lw_4 q1440 q1442 q1428 q119) (lw_meth q1430)) rfl rfl rfl (hW.1.2.2.2.2.2.2.2.2.2.2.2.2.1 3 (by decide)) ⟨by decide, by decide, by decide +kernel⟩ ⟨by show fr1 + 1 ≤ R.frames; omega, by show 8 + (3 + 11) + lo1 ≤ R.locals; omega⟩) (ww_preV hW hpr (obv_6 rfl ht) rfl) rfl rfl hls rfl hrest hdg ⟨hf.1, hf.2⟩) hW kk
  · exact ww_ci5 (va_runF (x := fmX) (y := yX6_value) (C := RX15) (As := [.ref (L 29 0)]) (rest := rest) (hW.1.1.1 17 _ rfl).2 S hM (va_cwF 1 hts (lw_app (lw_4 q1440 q1445 q1428 q119) (lw_meth q1430)) rfl rfl rfl (hW.1.2.2.2.2.2.2.2.2.2.2.2.2.1 4 (by decide)) ⟨by decide, by decide, by decide +kernel⟩ ⟨by show fr1 + 1 ≤ R.frames; omega, by show 8 + (3 + 11) + lo1 ≤ R.locals; omega⟩) (ww_preV hW hpr (obv_6 rfl ht) rfl) rfl rfl hls rfl hrest hdg ⟨hf.1, hf.2⟩) hW kk
  · exact ww_ci5 (va_runF (x := fmX) (y := yX6_value) (C := RX12) (As := [.ref (L 29 0)]) (rest := rest) (hW.1.1.1 18 _ rfl).2 S hM (va_cwF 1 hts (lw_app (lw_4 q1440 q1426 q1428 q119) (lw_meth q1430)) rfl rfl rfl (hW.1.2.2.2.2.2.2.2.2.2.2.2.2.1 5 (by decide)) ⟨by decide, by decide, by decide +kernel⟩ ⟨by show fr1 + 1 ≤ R.frames; omega, by show 8 + (3 + 11) + lo1 ≤ R.locals; omega⟩) (ww_preV hW hpr (obv_6 rfl ht) rfl) rfl rfl hls rfl hrest hdg ⟨hf.1, hf.2⟩) hW kk
  · exact ww_ci5 (va_runF (x := fmX) (y := yX13_value) (C := RX13) (As := [.ref (L 29 0)]) (rest := rest) (hW.1.1.1 19 _ rfl).2 S hM (va_cwF 1 hts (lw_app (lw_4 q1440 q1434 q1436 q139) (lw_meth q1438)) rfl rfl rfl (hW.1.2.2.2.2.2.2.2.2.2.2.2.2.1 6 (by decide)) ⟨by decide, by decide, by decide +kernel⟩ ⟨by show fr1 + 1 ≤ R.frames; omega, by show 8 + (2 + 11) + lo1 ≤ R.locals; omega⟩) (ww_preV hW hpr (obv_6 rfl ht) rfl) rfl rfl hls rfl hrest hdg ⟨hf.1, hf.2⟩) hW kk
def yX6o_ : MethodName := ⟨RX6, "of", "(II)I"⟩
theorem oi_X6 (S : CallFix p m c cc nL s args lw_all RX6) (hW : wv g L σ s H locs) (hpr : pr σ 91 i) (hM : OFC g l i L σ x y r) (hR : 3 ≤ R.frames ∧ 82 ≤ R.locals) (hls : ls.size = nL) (hrest : 2 * (F0 m pc ls rest).monitorRoom + (rest.map fun v => v.category).sum ≤ 8) (hdg : decode cc pc = .ok (.invokevirtual 22, 3)) (hf : cells + 0 ≤ R.cells ∧ slots + 0 ≤ R.slots)
    (kk : ∀ (H1 : Heap) (locs1 : List Loc), wv g L σ s H1 locs1 → W p l e R s m args below meth c H1 locs1 (cells + 0) (slots + 0) Q (F0 m (pc + 3) ls (.int r :: rest))) : W p l e R s m args below meth c H locs cells slots Q (F0 m pc ls (.int y :: .int x :: .ref (L 91 i) :: rest)) := by
  obtain ⟨t, h3, ht, hM⟩ := hM
  have hts := S.2.2.2.2
  obtain ⟨hR1, hR2⟩ := hR
  rcases h3 with rfl | rfl | rfl | rfl
  · exact ww_ci (va_runU (x := yX6o_) (y := yX7_of) (C := RX7) (owner := RX6) (As := [.int x, .int y]) (rest := rest) S hM (va_cwA 2 hts (lw_app (lw_5 q1462 q1464 q1476 q1477 q120) (lw_meth q1478)) rfl rfl rfl (hW.nw 68 rfl) ⟨by decide, by decide, by decide +kernel⟩ ⟨by show 2 + 1 ≤ R.frames; omega, by show 8 + (3 + 11) + 60 ≤ R.locals; omega⟩) (ww_preV hW hpr (obv_6 rfl ht) rfl) rfl rfl hls rfl hrest hdg ⟨hf.1, hf.2⟩) hW kk
  · exact ww_ci (va_runU (x := yX6o_) (y := yX14_of) (C := RX14) (owner := RX6) (As := [.int x, .int y]) (rest := rest) S hM (va_cwA 2 hts (lw_app (lw_5 q1462 q1464 q1468 q1469 q140) (lw_meth q1470)) rfl rfl rfl (hW.nw 68 rfl) ⟨by decide, by decide, by decide +kernel⟩ ⟨by show 2 + 1 ≤ R.frames; omega, by show 8 + (3 + 11) + 60 ≤ R.locals; omega⟩) (ww_preV hW hpr (obv_6 rfl ht) rfl) rfl rfl hls rfl hrest hdg ⟨hf.1, hf.2⟩) hW kk
  · exact ww_ci (va_runU (x := yX6o_) (y := yX15_of) (C := RX15) (owner := RX6) (As := [.int x, .int y]) (rest := rest) S hM (va_cwA 2 hts (lw_app (lw_5 q1462 q1464 q1472 q1473 q141) (lw_meth q1474)) rfl rfl rfl (hW.nw 68 rfl) ⟨by decide, by decide, by decide +kernel⟩ ⟨by show 2 + 1 ≤ R.frames; omega, by show 8 + (3 + 11) + 60 ≤ R.locals; omega⟩) (ww_preV hW hpr (obv_6 rfl ht) rfl) rfl rfl hls rfl hrest hdg ⟨hf.1, hf.2⟩) hW kk
  · exact ww_ci (va_runU (x := yX6o_) (y := yX12_of) (C := RX12) (owner := RX6) (As := [.int x, .int y]) (rest := rest) S hM (va_cwA 2 hts (lw_app (lw_5 q1462 q1464 q1465 q1466 q138) (lw_meth q1467)) rfl rfl rfl (hW.nw 68 rfl) ⟨by decide, by decide, by decide +kernel⟩ ⟨by show 2 + 1 ≤ R.frames; omega, by show 8 + (3 + 11) + 60 ≤ R.locals; omega⟩) (ww_preV hW hpr (obv_6 rfl ht) rfl) rfl rfl hls rfl hrest hdg ⟨hf.1, hf.2⟩) hW kk
end
def m_of (σ : st_T) (i : Nat) (x y : Int32) : Option Int32 := if gP_ σ 91 199 i = 2 then m_X7_of σ i x y else if gP_ σ 91 199 i = 3 then m_X14_of i x y else if gP_ σ 91 199 i = 4 then m_X15_of i x y else if gP_ σ 91 199 i = 5 then m_X12_of σ i x y else none
theorem c_of (g : wg_T) (hgm : gm g = true) (l : Launch) (L : ly_T) (σ : st_T) (i : Nat) (x y r : Int32) (h : m_of σ i x y = some r) : OFC g l i L σ x y r := by
  unfold m_of at h
  by_cases h2 : gP_ σ 91 199 i = 2
  · exact ⟨2, Or.inl rfl, h2, c_X7_of g hgm l L σ i x y r (ww_T h h2)⟩
  have h := ww_F h h2
  by_cases h3 : gP_ σ 91 199 i = 3
  · exact ⟨3, Or.inr (Or.inl rfl), h3, c_X14_of g hgm l L σ i x y r (ww_T h h3)⟩
  have h := ww_F h h3
  by_cases h4 : gP_ σ 91 199 i = 4
  · exact ⟨4, Or.inr (Or.inr (Or.inl rfl)), h4, c_X15_of g hgm l L σ i x y r (ww_T h h4)⟩
  have h := ww_F h h4
  by_cases h5 : gP_ σ 91 199 i = 5
  · exact ⟨5, Or.inr (Or.inr (Or.inr rfl)), h5, c_X12_of g hgm l L σ i x y r (ww_T h h5)⟩
  rw [if_neg h5] at h; cases h
