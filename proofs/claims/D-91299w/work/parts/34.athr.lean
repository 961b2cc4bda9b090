set_option maxRecDepth 100000
/-! ===== throws in methods that make things ===== -/
theorem gP_bX {σ : st_T} {r k i : Nat} (h : r ≠ 250) : gP_ (bX_ σ) r k i = gP_ σ r k i := by unfold gP_ bX_ bP_; exact if_neg h
theorem wv.bX {g : wg_T} {L : ly_T} {σ : st_T} {s : State} {H : Heap} {locs : List Loc} (h : wv g L σ s H locs) : wv g L (bX_ σ) s H locs := by
  have hne : ∀ r i, pr σ r i → r ≠ 250 := fun r i hp z => no250 (z ▸ hp)
  refine ⟨h.1, ⟨fun r i hp => ?_, h.2.1.2.1, fun r i hp q j ht => ?_, fun hg => ?_⟩, h.2.2⟩
  · have hp : pr σ r i := hp
    rw [show wE g L (bX_ σ) r i = wE g L σ r i from wE_ext (fun _ => rfl) rfl (fun k => gP_bX (hne r i hp)) rfl]
    exact h.2.1.1 r i hp
  · exact h.2.1.2.2.1 r i hp q j (tg_ext (fun k => gP_bX (hne r i hp)) ht)
  · have hr := h.2.1.2.2.2 hg
    exact ⟨hr.1, fun r i k d h1 hp h2 h3 => by rw [gP_bX (hne r i hp)]; exact hr.2 r i k d h1 hp h2 h3⟩
theorem lext_bX {L : ly_T} {σ : st_T} : lext L σ L (bX_ σ) := ⟨fun _ _ _ _ => rfl, fun _ => Nat.le_refl _, Nat.le_succ _, Nat.le_add_right _ _⟩
theorem wz_end {α : Type} {g : wg_T} {L L0 : ly_T} {σ σ0 σ_ : st_T} {s t : State} {H : Heap} {locs : List Loc} {o_ : Nat ⊕ α} {k : Nat} {E : String} (hW : wv g L σ s H locs) (hx : lext L0 σ0 L σ) (e1 : o_ = .inl k) (e2 : σ_ = σ) (hz : H.size ≤ t.heap.size) (hk : ∀ q : Nat, q < H.size → t.heap[q]? = H[q]?) (hE : E = exN k) : yX g L0 σ0 o_ σ_ E s t := by
  subst e1 e2
  refine ⟨(k, L), ⟨rfl, hx⟩, ⟨hE, hW.2.1.kept (fun r i hp => hk _ (hW.2.1.1 r i hp).1.lt)⟩, Nat.le_trans hW.2.2.1.1 hz, fun q h1 h2 => ?_⟩
  rw [hk q (Nat.lt_of_lt_of_le h1 hW.2.2.1.1)]
  exact hW.2.2.1.2.1 q h1 h2
section ZCALLS
variable {p : Program} {l : Launch} {e : Env} {R : Room} {s : State} {m : MethodId} {args : Array Value} {below : List Frame} {meth : Method} {c : Code} {H : Heap} {locs : List Loc} {cells slots : Nat} {Q : State → Prop}
variable {pc : Nat} {ls : Array Slot} {rest st0 : List Value} {a : Array Value} {mc ms : Nat} {g : wg_T} {L L0 : ly_T} {σ σ' σ0 : st_T} {Qa : State → Outcome → State → Prop}
/-- a callee that makes nothing threw -/
theorem wz_prop {α β : Type} {o_ : Nat ⊕ β} {σ_ : st_T} {k : Nat} {Qc : Array Value → State → Outcome → State → Prop} {mc' ms' : Nat} (hr : vx_Run p l e R s m args below meth c H locs cells slots mc ms (F0 m pc ls st0) rest Qa (wX g (.inl k : Nat ⊕ α) σ' L) (fun q => gz g ≤ q)) (hno : ∀ st v t, Qa st (.returned v) t → False) (hx : lext L0 σ0 L σ') (hW : wv g L σ s H locs) (hlocks : meth.locks = false) (hout : ∀ x ∈ c.exceptionTable.toList, False) (e1 : o_ = .inl k) (e2 : σ_ = bX_ σ') (hc : cells + mc ≤ mc' ∧ slots + ms ≤ ms') :
    W p l e R s m args below meth c H locs cells slots (vx_MQ below Qc (yX g L0 σ0 o_ σ_) args s mc' ms' (fun q => gz g ≤ q)) (F0 m pc ls st0) := by
  subst e1
  intro T hT X
  rcases hr T hT X with ⟨v0, st₀, t, T', Lc, h0, X', hL, e1, e2, hq, st⟩ | ⟨q, st₀, t, T', Lc, E, ce, h0, X', hL, e1, e2', ⟨u, hp, ⟨hE, hb⟩, hF⟩, hce, hcv, hcl, st⟩
  · exact (hno _ _ _ hq).elim
  · cases hp
    obtain ⟨k1, k2, k3⟩ := vx_keep h0 e1 hW.2.2.1 (fun q _ h => h) (fun q h => h) hL hF
    have hW1 := (hW.back e1.symm hb k3).bX
    have key : vx_W p l e R s m args below meth c T'.heap (locs ++ Lc) (cells + mc) (slots + ms) (vx_MQ below Qc (yX g L0 σ0 (.inl k : Nat ⊕ β) σ_) args s mc' ms' (fun q => gz g ≤ q)) (F0 m pc ls rest) q :=
      vx_out (fun x hx => (hout x hx).elim) hlocks (by rw [e1]; exact hce) hcv hcl (fun t1 ht1 _ => wz_end hW1 (hx.trans lext_bX) rfl e2 (by rw [ht1]; exact Nat.le_refl _) (fun q _ => by rw [ht1]) hE) hW1.locs hc.1 hc.2
    obtain ⟨t2, a1, b1⟩ := key T' rfl X'
    exact ⟨t2, st.trans a1, b1⟩
/-- a callee that makes things threw -/
theorem wz_propA {α β : Type} {o_ : Nat ⊕ β} {σ_ : st_T} {k : Nat} {Qc : Array Value → State → Outcome → State → Prop} {mc' ms' : Nat} (hr : vx_Run p l e R s m args below meth c H locs cells slots mc ms (F0 m pc ls st0) rest Qa (yX g L σ (.inl k : Nat ⊕ α) σ') (fun q => gz g ≤ q)) (hno : ∀ st v t, Qa st (.returned v) t → False) (hx : lext L0 σ0 L σ) (hW : wv g L σ s H locs) (hlocks : meth.locks = false) (hout : ∀ x ∈ c.exceptionTable.toList, False) (e1 : o_ = .inl k) (e2 : σ_ = σ') (hc : cells + mc ≤ mc' ∧ slots + ms ≤ ms') :
    W p l e R s m args below meth c H locs cells slots (vx_MQ below Qc (yX g L0 σ0 o_ σ_) args s mc' ms' (fun q => gz g ≤ q)) (F0 m pc ls st0) := by
  subst e1
  intro T hT X
  rcases hr T hT X with ⟨v0, st₀, t, T', Lc, h0, X', hL, e1, e2, hq, st⟩ | ⟨q, st₀, t, T', Lc, E, ce, h0, X', hL, e1, e2', ⟨⟨k', L1⟩, ⟨hp, hx1⟩, ⟨hE, hb⟩, hF⟩, hce, hcv, hcl, st⟩
  · exact (hno _ _ _ hq).elim
  · cases hp
    obtain ⟨k1, k2, k3⟩ := vx_keep h0 e1 hW.2.2.1 (fun q _ h => h) (fun q h => h) hL hF
    have hW1 := hW.back e1.symm hb k3
    have key : vx_W p l e R s m args below meth c T'.heap (locs ++ Lc) (cells + mc) (slots + ms) (vx_MQ below Qc (yX g L0 σ0 (.inl _ : Nat ⊕ β) σ_) args s mc' ms' (fun q => gz g ≤ q)) (F0 m pc ls rest) q :=
      vx_out (fun x hx => (hout x hx).elim) hlocks (by rw [e1]; exact hce) hcv hcl (fun t1 ht1 _ => wz_end hW1 (hx.trans hx1) rfl e2 (by rw [ht1]; exact Nat.le_refl _) (fun q _ => by rw [ht1]) hE) hW1.locs hc.1 hc.2
    obtain ⟨t2, a1, b1⟩ := key T' rfl X'
    exact ⟨t2, st.trans a1, b1⟩
theorem noA_i {k : Nat} : ∀ (st : State) (v : Option Value) (t : State), yXi g L σ (.inl k) σ' a st (.returned v) t → False := fun _ _ _ h => by
  obtain ⟨⟨r, u, h1, h2, h3⟩, -⟩ := h
  exact nomatch h2.1
theorem noA_v {k : Nat} : ∀ (st : State) (v : Option Value) (t : State), yXv g L σ (.inl k) σ' a st (.returned v) t → False := fun _ _ _ h => by
  obtain ⟨⟨u, h1, h2, h3⟩, -⟩ := h
  exact nomatch h2.1
theorem noA_r {k rg : Nat} : ∀ (st : State) (v : Option Value) (t : State), yXr g L σ rg (.inl k) σ' a st (.returned v) t → False := fun _ _ _ h => by
  obtain ⟨⟨u, ra, h1, h2, ⟨v1, h3, h4⟩, h5⟩, -⟩ := h
  exact nomatch h3
theorem wz_ci {v : Int32} (hr : vx_Run p l e R s m args below meth c H locs cells slots mc ms (F0 m pc ls st0) rest (yXi g L σ (.inr v) σ' a) (yX g L σ (.inr v : Nat ⊕ Int32) σ') (fun q => gz g ≤ q)) (hW : wv g L σ s H locs)
    (kk : ∀ (H1 : Heap) (locs1 : List Loc) (L1 : ly_T), lext L σ L1 σ' → wv g L1 σ' s H1 locs1 → W p l e R s m args below meth c H1 locs1 (cells + mc) (slots + ms) Q (F0 m (pc + 3) ls (.int v :: rest))) : W p l e R s m args below meth c H locs cells slots Q (F0 m pc ls st0) := by
  refine vx_calli hr hW.2.2.1 (fun q _ h => h) (fun q h => h) (fun q _ h => h) (fun E ce q9 u t H1 locs1 ht hvm hp => nomatch hp.1) (fun r u t H1 locs1 ht hvm hp hB hz hk hS => ?_)
  obtain ⟨hp, hx⟩ := hp
  cases hp
  exact kk H1 locs1 u hx (hW.back ht hB hS)
theorem wz_cv {u0 : Unit} (hr : vx_Run p l e R s m args below meth c H locs cells slots mc ms (F0 m pc ls st0) rest (yXv g L σ (.inr u0) σ' a) (yX g L σ (.inr u0 : Nat ⊕ Unit) σ') (fun q => gz g ≤ q)) (hW : wv g L σ s H locs)
    (kk : ∀ (H1 : Heap) (locs1 : List Loc) (L1 : ly_T), lext L σ L1 σ' → wv g L1 σ' s H1 locs1 → W p l e R s m args below meth c H1 locs1 (cells + mc) (slots + ms) Q (F0 m (pc + 3) ls rest)) : W p l e R s m args below meth c H locs cells slots Q (F0 m pc ls st0) :=
  vx_callv hr hW.2.2.1 (fun q _ h => h) (fun q h => h) (fun q _ h => h) (fun E ce q9 u t H1 locs1 ht hvm hp => nomatch hp.1) (fun u t H1 locs1 ht hvm hp hB hz hk hS => kk H1 locs1 u hp.2 (hW.back ht hB hS))
theorem wz_cr {v rg : Nat} (hr : vx_Run p l e R s m args below meth c H locs cells slots mc ms (F0 m pc ls st0) rest (yXr g L σ rg (.inr v) σ' a) (yX g L σ (.inr v : Nat ⊕ Nat) σ') (fun q => gz g ≤ q)) (hW : wv g L σ s H locs)
    (kk : ∀ (H1 : Heap) (locs1 : List Loc) (L1 : ly_T), lext L σ L1 σ' → wv g L1 σ' s H1 locs1 → W p l e R s m args below meth c H1 locs1 (cells + mc) (slots + ms) Q (F0 m (pc + 3) ls (.ref (L1 rg v) :: rest))) : W p l e R s m args below meth c H locs cells slots Q (F0 m pc ls st0) := by
  intro T hT X
  rcases hr T hT X with ⟨v0, st₀, t, T', Lc, h0, X', hL, e1, e2, ⟨⟨u, ra, hv, hp, ⟨v1, hv1, hv2⟩, hb⟩, hF⟩, st⟩ | ⟨q, st₀, t, T', Lc, E, ce, h0, X', hL, e1, e2, ⟨u, hp, hb, hF⟩, hce, hcv, hcl, st⟩
  · cases hv; cases hv1; subst hv2
    obtain ⟨k1, k2, k3⟩ := vx_keep h0 e1 hW.2.2.1 (fun q _ h => h) (fun q h => h) hL hF
    obtain ⟨t2, a1, b1⟩ := kk T'.heap (locs ++ Lc) u hp (hW.back e1.symm hb k3) T' rfl X'
    exact ⟨t2, st t2 a1, b1⟩
  · exact nomatch hp.1
end ZCALLS
