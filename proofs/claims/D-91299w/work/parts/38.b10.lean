set_option maxRecDepth 100000
/-! ===== rows for what follows ===== -/
theorem kp_I {σ : st_T} {r k i n : Nat} {v : Int32} (h : r ≠ 250) : kp_ σ (sM_ (sF_ σ r 0 i v) r k i n) := ⟨rfl, fun j => (kp_M (σ := sF_ σ r 0 i v) h).2 j⟩
theorem wv.up {g : wg_T} {L : ly_T} {σ : st_T} {s : State} {H : Heap} {locs : List Loc} (h : wv g L σ s H locs) (hr : rdy σ) : wv (ry_ g) L σ s H locs := ⟨h.1, ⟨h.2.1.1, h.2.1.2.1, h.2.1.2.2.1, fun _ => hr⟩, h.2.2⟩
theorem wv.down {g : wg_T} {L : ly_T} {σ : st_T} {s : State} {H : Heap} {locs : List Loc} (h : wv (ry_ g) L σ s H locs) (hg : gm g = false) : wv g L σ s H locs := ⟨h.1, ⟨h.2.1.1, h.2.1.2.1, h.2.1.2.2.1, fun z => by rw [hg] at z; cases z⟩, h.2.2⟩
