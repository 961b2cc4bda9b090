set_option maxRecDepth 100000
/-! ===== methods that may throw ===== -/
def xc {α : Type} (o : Nat ⊕ α) : Nat := match o with
  | .inl _ => 1
  | .inr _ => 0
def xs {α : Type} (o : Nat ⊕ α) : Nat := match o with
  | .inl _ => 6
  | .inr _ => 0
abbrev wX {α : Type} (g : wg_T) (o : Nat ⊕ α) (σ' : st_T) (L : ly_T) : String → State → State → Prop := vx_X (fun (k : Nat) => o = .inl k) (fun E k t => E = exN k ∧ wq g L σ' t.heap) (fun q => gz g ≤ q)
abbrev wXi (g : wg_T) (L : ly_T) (o : Nat ⊕ Int32) (σ' : st_T) : Array Value → State → Outcome → State → Prop := va_Qi (fun (r : Int32) (_ : Unit) => o = .inr r) (fun _ t => wq g L σ' t.heap) (fun q => gz g ≤ q)
abbrev wXv (g : wg_T) (L : ly_T) (o : Nat ⊕ Unit) (σ' : st_T) : Array Value → State → Outcome → State → Prop := va_Qv (fun (_ : Unit) => o = .inr ()) (fun _ t => wq g L σ' t.heap) (fun q => gz g ≤ q)
abbrev wXr (g : wg_T) (L : ly_T) (rg : Nat) (o : Nat ⊕ Nat) (σ' : st_T) : Array Value → State → Outcome → State → Prop := va_Qr (fun (_ : Unit) => True) (fun _ a t => (∃ v, o = .inr v ∧ a = L rg v) ∧ wq g L σ' t.heap) (fun q => gz g ≤ q)
def XI (g : wg_T) (l : Launch) (y : MethodName) (ws : List Cond) (fr lo mc ms : Nat) (av : List Value) (L : ly_T) (σ : st_T) (o : Nat ⊕ Int32) (σ' : st_T) : Prop := vx_Met l y ws (wrm fr lo mc ms) (va_Pc av (wd g L σ)) (wXi g L o σ') (wX g o σ' L) mc ms (fun q => gz g ≤ q)
def XV (g : wg_T) (l : Launch) (y : MethodName) (ws : List Cond) (fr lo mc ms : Nat) (av : List Value) (L : ly_T) (σ : st_T) (o : Nat ⊕ Unit) (σ' : st_T) : Prop := vx_Met l y ws (wrm fr lo mc ms) (va_Pc av (wd g L σ)) (wXv g L o σ') (wX g o σ' L) mc ms (fun q => gz g ≤ q)
def XR (g : wg_T) (l : Launch) (y : MethodName) (ws : List Cond) (fr lo mc ms : Nat) (av : List Value) (L : ly_T) (σ : st_T) (rg : Nat) (o : Nat ⊕ Nat) (σ' : st_T) : Prop := vx_Met l y ws (wrm fr lo mc ms) (va_Pc av (wd g L σ)) (wXr g L rg o σ') (wX g o σ' L) mc ms (fun q => gz g ≤ q)
theorem wx_end {α : Type} {g : wg_T} {L : ly_T} {σ σ_ : st_T} {s t : State} {H : Heap} {locs : List Loc} {o_ : Nat ⊕ α} {k : Nat} {E : String} (hW : wv g L σ s H locs) (e1 : o_ = .inl k) (e2 : σ_ = σ) (hz : H.size ≤ t.heap.size) (hk : ∀ q : Nat, q < H.size → t.heap[q]? = H[q]?) (hE : E = exN k := by rfl) : wX g o_ σ_ L E s t := by
  subst e1 e2
  refine ⟨k, rfl, ⟨hE, hW.2.1.kept (fun r i hp => hk _ (hW.2.1.1 r i hp).1.lt)⟩, Nat.le_trans hW.2.2.1.1 hz, fun q h1 h2 => ?_⟩
  rw [hk q (Nat.lt_of_lt_of_le h1 hW.2.2.1.1)]
  exact hW.2.2.1.2.1 q h1 h2
section XENDS
variable {p : Program} {l : Launch} {e : Env} {R : Room} {s : State} {m : MethodId} {args : Array Value} {below : List Frame} {meth : Method} {c : Code} {H : Heap} {locs : List Loc} {cells slots : Nat}
variable {cc : ByteArray} {pc : Nat} {ls : Array Slot} {g : wg_T} {L : ly_T} {σ σ_ : st_T} {mc ms : Nat} {XC : String → State → State → Prop}
theorem wx_i {v : Int32} {o_ : Nat ⊕ Int32} (hexec : p.tables.exec = Jvm.exec) (hb : c.code = cc) (hr : meth.sig.returnType = some .int) (hlocks : meth.locks = false) (hW : wv g L σ s H locs) (e1 : o_ = .inr v) (e2 : σ_ = σ) (hc : cells ≤ mc) (hs : slots ≤ ms) (hdg : decode cc pc = .ok (.ireturn, 1)) :
    W p l e R s m args below meth c H locs cells slots (vx_MQ below (wXi g L o_ σ_) XC args s mc ms (fun q => gz g ≤ q)) (F0 m pc ls [.int v]) := by
  subst e1 e2
  exact vx_ret (W.widen hc hs (W.iret hexec hb hr (fun t ht hW' => ⟨⟨_, (), rfl, rfl, hW.end ht⟩, hW.F ht⟩) hW.locs hdg hlocks))
theorem wx_z {v : Int32} {o_ : Nat ⊕ Int32} (hexec : p.tables.exec = Jvm.exec) (hb : c.code = cc) (hr : meth.sig.returnType = some .boolean) (hlocks : meth.locks = false) (hW : wv g L σ s H locs) (hz : bz v) (e1 : o_ = .inr v) (e2 : σ_ = σ) (hc : cells ≤ mc) (hs : slots ≤ ms) (hdg : decode cc pc = .ok (.ireturn, 1)) :
    W p l e R s m args below meth c H locs cells slots (vx_MQ below (wXi g L o_ σ_) XC args s mc ms (fun q => gz g ≤ q)) (F0 m pc ls [.int v]) := by
  subst e1 e2
  exact vx_ret (W.widen hc hs (W.zret hexec hb hr (bz_n hz) (fun t ht hW' => ⟨⟨_, (), rfl, rfl, hW.end ht⟩, hW.F ht⟩) hW.locs hdg hlocks))
theorem wx_v {o_ : Nat ⊕ Unit} (hexec : p.tables.exec = Jvm.exec) (hb : c.code = cc) (hr : meth.sig.returnType = none) (hlocks : meth.locks = false) (hW : wv g L σ s H locs) (e1 : o_ = .inr ()) (e2 : σ_ = σ) (hc : cells ≤ mc) (hs : slots ≤ ms) (hdg : decode cc pc = .ok (.return_, 1)) :
    W p l e R s m args below meth c H locs cells slots (vx_MQ below (wXv g L o_ σ_) XC args s mc ms (fun q => gz g ≤ q)) (F0 m pc ls []) := by
  subst e1 e2
  exact vx_ret (W.widen hc hs (W.vret hexec hb hr (fun t ht hW' => ⟨⟨(), rfl, rfl, hW.end ht⟩, hW.F ht⟩) hW.locs hdg hlocks))
theorem wx_r {v rg : Nat} {o_ : Nat ⊕ Nat} {C : String} (hexec : p.tables.exec = Jvm.exec) (hb : c.code = cc) (hr : meth.sig.returnType = some (.object C)) (hlocks : meth.locks = false) (hW : wv g L σ s H locs) (e1 : o_ = .inr v) (e2 : σ_ = σ) (hc : cells ≤ mc) (hs : slots ≤ ms) (hdg : decode cc pc = .ok (.areturn, 1)) :
    W p l e R s m args below meth c H locs cells slots (vx_MQ below (wXr g L rg o_ σ_) XC args s mc ms (fun q => gz g ≤ q)) (F0 m pc ls [.ref (L rg v)]) := by
  subst e1 e2
  exact vx_ret (W.widen hc hs (W.aret hexec hb hr (Or.inl ⟨_, rfl⟩) (Or.inr ⟨_, rfl⟩) (fun t ht hW' => ⟨⟨(), _, rfl, trivial, ⟨⟨_, rfl, rfl⟩, hW.end ht⟩⟩, hW.F ht⟩) hW.locs hdg hlocks))
end XENDS
section XCALLS
variable {p : Program} {l : Launch} {e : Env} {R : Room} {s : State} {m : MethodId} {args : Array Value} {below : List Frame} {meth : Method} {c : Code} {H : Heap} {locs : List Loc} {cells slots : Nat} {Q : State → Prop}
variable {pc : Nat} {ls : Array Slot} {rest st0 : List Value} {a : Array Value} {mc ms : Nat} {g : wg_T} {L : ly_T} {σ σ' : st_T} {Qa : State → Outcome → State → Prop}
/-- the callee returned -/
theorem ww_xi {v : Int32} (hr : vx_Run p l e R s m args below meth c H locs cells slots mc ms (F0 m pc ls st0) rest (wXi g L (.inr v) σ' a) (wX g (.inr v : Nat ⊕ Int32) σ' L) (fun q => gz g ≤ q)) (hW : wv g L σ s H locs)
    (kk : ∀ (H1 : Heap) (locs1 : List Loc), wv g L σ' s H1 locs1 → W p l e R s m args below meth c H1 locs1 (cells + mc) (slots + ms) Q (F0 m (pc + 3) ls (.int v :: rest))) : W p l e R s m args below meth c H locs cells slots Q (F0 m pc ls st0) := by
  refine vx_calli hr hW.2.2.1 (fun q _ h => h) (fun q h => h) (fun q _ h => h) (fun E ce q9 u t H1 locs1 ht hvm hp => nomatch hp) (fun r u t H1 locs1 ht hvm hp hB hz hk hS => ?_)
  cases hp
  exact kk H1 locs1 (hW.back ht hB hS)
theorem ww_xv (hr : vx_Run p l e R s m args below meth c H locs cells slots mc ms (F0 m pc ls st0) rest (wXv g L (.inr ()) σ' a) (wX g (.inr () : Nat ⊕ Unit) σ' L) (fun q => gz g ≤ q)) (hW : wv g L σ s H locs)
    (kk : ∀ (H1 : Heap) (locs1 : List Loc), wv g L σ' s H1 locs1 → W p l e R s m args below meth c H1 locs1 (cells + mc) (slots + ms) Q (F0 m (pc + 3) ls rest)) : W p l e R s m args below meth c H locs cells slots Q (F0 m pc ls st0) :=
  vx_callv hr hW.2.2.1 (fun q _ h => h) (fun q h => h) (fun q _ h => h) (fun E ce q9 u t H1 locs1 ht hvm hp => nomatch hp) (fun u t H1 locs1 ht hvm hp hB hz hk hS => kk H1 locs1 (hW.back ht hB hS))
theorem ww_xr {v rg : Nat} (hr : vx_Run p l e R s m args below meth c H locs cells slots mc ms (F0 m pc ls st0) rest (wXr g L rg (.inr v) σ' a) (wX g (.inr v : Nat ⊕ Nat) σ' L) (fun q => gz g ≤ q)) (hW : wv g L σ s H locs)
    (kk : ∀ (H1 : Heap) (locs1 : List Loc), wv g L σ' s H1 locs1 → W p l e R s m args below meth c H1 locs1 (cells + mc) (slots + ms) Q (F0 m (pc + 3) ls (.ref (L rg v) :: rest))) : W p l e R s m args below meth c H locs cells slots Q (F0 m pc ls st0) := by
  intro T hT X
  rcases hr T hT X with ⟨v0, st₀, t, T', Lc, h0, X', hL, e1, e2, ⟨⟨u, ra, hv, hp, ⟨v1, hv1, hv2⟩, hb⟩, hF⟩, st⟩ | ⟨q, st₀, t, T', Lc, E, ce, h0, X', hL, e1, e2, ⟨u, hp, hb, hF⟩, hce, hcv, hcl, st⟩
  · cases hv; cases hv1; subst hv2
    obtain ⟨k1, k2, k3⟩ := vx_keep h0 e1 hW.2.2.1 (fun q _ h => h) (fun q h => h) hL hF
    obtain ⟨t2, a1, b1⟩ := kk T'.heap (locs ++ Lc) (hW.back e1.symm hb k3) T' rfl X'
    exact ⟨t2, st t2 a1, b1⟩
  · exact nomatch hp
theorem ww_xi0 {v : Int32} (hr : vx_Run p l e R s m args below meth c H locs cells slots (xc (.inr v : Nat ⊕ Int32)) (xs (.inr v : Nat ⊕ Int32)) (F0 m pc ls st0) rest (wXi g L (.inr v) σ' a) (wX g (.inr v : Nat ⊕ Int32) σ' L) (fun q => gz g ≤ q)) (hW : wv g L σ s H locs)
    (kk : ∀ (H1 : Heap) (locs1 : List Loc), wv g L σ' s H1 locs1 → W p l e R s m args below meth c H1 locs1 cells slots Q (F0 m (pc + 3) ls (.int v :: rest))) : W p l e R s m args below meth c H locs cells slots Q (F0 m pc ls st0) := ww_xi hr hW kk
theorem ww_xv0 {u : Unit} (hr : vx_Run p l e R s m args below meth c H locs cells slots (xc (.inr u : Nat ⊕ Unit)) (xs (.inr u : Nat ⊕ Unit)) (F0 m pc ls st0) rest (wXv g L (.inr u) σ' a) (wX g (.inr u : Nat ⊕ Unit) σ' L) (fun q => gz g ≤ q)) (hW : wv g L σ s H locs)
    (kk : ∀ (H1 : Heap) (locs1 : List Loc), wv g L σ' s H1 locs1 → W p l e R s m args below meth c H1 locs1 cells slots Q (F0 m (pc + 3) ls rest)) : W p l e R s m args below meth c H locs cells slots Q (F0 m pc ls st0) := ww_xv hr hW kk
theorem ww_xr0 {v rg : Nat} (hr : vx_Run p l e R s m args below meth c H locs cells slots (xc (.inr v : Nat ⊕ Nat)) (xs (.inr v : Nat ⊕ Nat)) (F0 m pc ls st0) rest (wXr g L rg (.inr v) σ' a) (wX g (.inr v : Nat ⊕ Nat) σ' L) (fun q => gz g ≤ q)) (hW : wv g L σ s H locs)
    (kk : ∀ (H1 : Heap) (locs1 : List Loc), wv g L σ' s H1 locs1 → W p l e R s m args below meth c H1 locs1 cells slots Q (F0 m (pc + 3) ls (.ref (L rg v) :: rest))) : W p l e R s m args below meth c H locs cells slots Q (F0 m pc ls st0) := ww_xr hr hW kk
/-- the callee threw, and the method throws on -/
theorem wx_prop {α β : Type} {o_ : Nat ⊕ β} {σ_ : st_T} {k : Nat} {Qc : Array Value → State → Outcome → State → Prop} {mc' ms' : Nat} (hr : vx_Run p l e R s m args below meth c H locs cells slots mc ms (F0 m pc ls st0) rest Qa (wX g (.inl k : Nat ⊕ α) σ' L) (fun q => gz g ≤ q)) (hno : ∀ st v t, Qa st (.returned v) t → False) (hW : wv g L σ s H locs) (hlocks : meth.locks = false) (hout : ∀ x ∈ c.exceptionTable.toList, False) (e1 : o_ = .inl k) (e2 : σ_ = σ') (hc : cells + mc ≤ mc') (hs : slots + ms ≤ ms') :
    W p l e R s m args below meth c H locs cells slots (vx_MQ below Qc (wX g o_ σ_ L) args s mc' ms' (fun q => gz g ≤ q)) (F0 m pc ls st0) := by
  subst e1 e2
  intro T hT X
  rcases hr T hT X with ⟨v0, st₀, t, T', Lc, h0, X', hL, e1, e2, hq, st⟩ | ⟨q, st₀, t, T', Lc, E, ce, h0, X', hL, e1, e2, ⟨u, hp, ⟨hE, hb⟩, hF⟩, hce, hcv, hcl, st⟩
  · exact (hno _ _ _ hq).elim
  · cases hp
    obtain ⟨k1, k2, k3⟩ := vx_keep h0 e1 hW.2.2.1 (fun q _ h => h) (fun q h => h) hL hF
    have hW1 := hW.back e1.symm hb k3
    have key : vx_W p l e R s m args below meth c T'.heap (locs ++ Lc) (cells + mc) (slots + ms) (vx_MQ below Qc (wX g (.inl k : Nat ⊕ β) σ_ L) args s mc' ms' (fun q => gz g ≤ q)) (F0 m pc ls rest) q :=
      vx_out (fun x hx => (hout x hx).elim) hlocks (by rw [e1]; exact hce) hcv hcl (fun t1 ht1 _ => wx_end hW1 rfl rfl (by rw [ht1]; exact Nat.le_refl _) (fun q _ => by rw [ht1]) (hE := hE)) hW1.locs hc hs
    obtain ⟨t2, a1, b1⟩ := key T' rfl X'
    exact ⟨t2, st.trans a1, b1⟩
theorem no_i {k : Nat} : ∀ (st : State) (v : Option Value) (t : State), wXi g L (.inl k) σ' a st (.returned v) t → False := fun _ _ _ h => by
  obtain ⟨⟨r, u, h1, h2, h3⟩, -⟩ := h
  exact nomatch h2
theorem no_v {k : Nat} : ∀ (st : State) (v : Option Value) (t : State), wXv g L (.inl k) σ' a st (.returned v) t → False := fun _ _ _ h => by
  obtain ⟨⟨u, h1, h2, h3⟩, -⟩ := h
  exact nomatch h2
theorem no_r {k rg : Nat} : ∀ (st : State) (v : Option Value) (t : State), wXr g L rg (.inl k) σ' a st (.returned v) t → False := fun _ _ _ h => by
  obtain ⟨⟨u, ra, h1, h2, ⟨v1, h3, h4⟩, h5⟩, -⟩ := h
  exact nomatch h3
end XCALLS
section XSTART
variable {l : Launch} {y : MethodName} {cc : ByteArray} {maxL : Nat} {ret : Option FieldType} {g : wg_T} {L : ly_T} {σ : st_T} {fr lo mc ms : Nat} {av : List Value}
def xbody (l : Launch) (y : MethodName) (cc : ByteArray) (maxL : Nat) (ret : Option FieldType) (g : wg_T) (L : ly_T) (σ : st_T) (fr lo mc ms : Nat) (av : List Value) (Qc : Array Value → State → Outcome → State → Prop) (XC : String → State → State → Prop) : Prop :=
  ∀ (p : Program) (e : Env) (s : State) (m : MethodId) (args : Array Value) (below : List Frame) (meth : Method) (c : Code) (ls : Array Slot), p.tables.exec = Jvm.exec → c.code = cc → meth.sig.returnType = ret → c.maxLocals = maxL → meth.locks = false → (∀ w ∈ lw_all, w.before args s = true) → s.vm.findClass y.cls = some m.cls → meth.name = y.name → (∀ x ∈ c.exceptionTable.toList, False) → wv g L σ s s.heap [] → lv_has ls maxL (lv_args 0 av) →
    W p l e (wrm fr lo mc ms) s m args below meth c s.heap [] 0 0 (vx_MQ below Qc XC args s mc ms (fun q => gz g ≤ q)) (F0 m 0 ls [])
theorem xbody.met {Qc : Array Value → State → Outcome → State → Prop} {XC : String → State → State → Prop} (hy : plainName y.cls = true) (hsz : (lg_sl av).length ≤ maxL) (h : xbody l y cc maxL ret g L σ fr lo mc ms av Qc XC) : vx_Met l y (ws_ y cc maxL ret) (wrm fr lo mc ms) (va_Pc av (wd g L σ)) Qc XC mc ms (fun q => gz g ≤ q) := by
  refine vx_ofW (cc := cc) (maxL := maxL) (ret := ret) hy rfl ?_
  intro p e s m args below meth c s₁ B hml hout hv
  obtain ⟨hav, hv⟩ := hv
  have hl := lv_entry av hsz
  have hts : ∀ w ∈ lw_all, w.before args s = true := fun w h => atoms_spec (ws := ws_ y cc maxL ret) B.pre w (List.mem_cons_of_mem _ h)
  have k := h p e s m args below meth c _ B.exec B.bytes B.returns hml B.notSynchronized hts (findClass_of_methodNamed B.named) (name_of_methodNamed B.named B.method).1 hout hv.start hl
  subst hav
  rw [lg_entry_eq]
  exact k
end XSTART
section XCAST
variable {p : Program} {l : Launch} {e : Env} {R : Room} {s : State} {m : MethodId} {args : Array Value} {below : List Frame} {meth : Method} {c : Code} {H : Heap} {locs : List Loc} {cells slots : Nat} {Q : State → Prop}
variable {cc : ByteArray} {pc : Nat} {ls : Array Slot} {rest : List Value} {g : wg_T} {L : ly_T} {σ : st_T} {own : String}
theorem ww_castS (hexec : p.tables.exec = Jvm.exec) (hb : c.code = cc) (hown : s.vm.findClass own = some m.cls) {nm : String} {index : Nat} (hlink : (Cond.classLink own index nm).before args s = true) (hW : wv g L σ s H locs) {r i ci N : Nat} {fk : List (Nat × Nat × Nat)} {T : u_T} (hpr : pr σ r i) (hr : obv σ r i ci fk) (hc : wcl[ci]? = some (nm, T, N)) (hdg : decode cc pc = .ok (.checkcast index, 3))
    (k : W p l e R s m args below meth c H locs cells slots Q (F0 m (pc + 3) ls (.ref (L r i) :: rest))) : W p l e R s m args below meth c H locs cells slots Q (F0 m pc ls (.ref (L r i) :: rest)) :=
  va_castS hexec hb hown hlink (hW.1.1.1 ci _ hc).2 (ww_recv hW hpr hr hc) hdg k
/-- System.arraycopy of ints, from one region's array to another's -/
theorem ww_copyi (hexec : p.tables.exec = Jvm.exec) (hb : c.code = cc) (hml : c.maxLocals = ls.size) {index : Nat} (hown : s.vm.findClass own = some m.cls) (hlink : (Cond.methodLink own index arraycopyName).before args s = true) (hnat : (Cond.native arraycopyName).before args s = true) (hstat : (Cond.static arraycopyName).before args s = true) (hini : (Cond.initialized "java/lang/System").before args s = true)
    (hW : wv g L σ s H locs) {r0 i0 r1 i1 n0 n1 : Nat} {f f1 : Nat → Int32} (hp0 : pr σ r0 i0) (hp1 : pr σ r1 i1) (h0 : wE g L σ r0 i0 = .inl (gC g 0, n0, .inl f)) (h1' : wE g L σ r1 i1 = .inl (gC g 0, n1, .inl f1)) {σ' : st_T}
    {sp dp n : Int32} (h1 : ¬ sp < 0) (h2 : ¬ dp < 0) (h3 : ¬ n < 0) (h4 : sp.toNatClampNeg + n.toNatClampNeg ≤ n0) (h5 : dp.toNatClampNeg + n.toNatClampNeg ≤ n1) (hnew : wE g L σ' r1 i1 = .inl (gC g 0, n1, .inl (va_cpy f f1 sp.toNatClampNeg dp.toNatClampNeg n.toNatClampNeg))) (hsame : ∀ r' i' : Nat, ¬ (r' = r1 ∧ i' = i1) → wE g L σ' r' i' = wE g L σ r' i') (hN : gN_ σ' = gN_ σ) (hvq : vq σ → vq σ') (hrdy : rdy σ → rdy σ')
    (hframes : 1 ≤ R.frames) (hlocals : (rest.map fun v => v.category).sum + (nativeFrameWords "java/lang/System" "arraycopy" 5 + 11) ≤ R.locals) (hdg : decode cc pc = .ok (.invokestatic index, 3))
    (kk : ∀ (H1 : Heap) (locs1 : List Loc), wv g L σ' s H1 locs1 → W p l e R s m args below meth c H1 locs1 cells slots Q (F0 m (pc + 3) ls rest)) : W p l e R s m args below meth c H locs cells slots Q (F0 m pc ls (.int n :: .int dp :: .ref (L r1 i1) :: .int sp :: .ref (L r0 i0) :: rest)) := by
  have nn : ∀ z : Int32, ¬ z < 0 → z.toInt = (z.toNatClampNeg : Int) := by
    intro z hz
    have hz0 : (0 : Int) ≤ z.toInt := by
      have := Int32.not_lt.mp hz
      simpa using Int32.le_iff_toInt_le.mp this
    show z.toInt = ((z.toInt.toNat : Nat) : Int)
    omega
  have hc0 : H[L r0 i0]? = some (vp_cell (gC g 0) (n0, .inl f)) := by
    have := (hW.2.1.1 r0 i0 hp0).1
    rw [h0] at this
    exact this
  have hc1 : H[L r1 i1]? = some (vp_cell (gC g 0) (n1, .inl f1)) := by
    have := (hW.2.1.1 r1 i1 hp1).1
    rw [h1'] at this
    exact this
  intro T hT X
  obtain ⟨-, k0, hk0, cm0, hkk0⟩ := (hW.1.1.2 0 _ rfl).1 n0 (fun j => .int (f j))
  obtain ⟨-, k1, hk1, cm1, hkk1⟩ := (hW.1.1.2 0 _ rfl).1 n1 (fun j => .int (f1 j))
  obtain ⟨vm', X', step⟩ := X.arraycopy hexec hown hlink hnat hstat hini (src := L r0 i0) (dst := L r1 i1) (cs := vp_cell (gC g 0) (n0, .inl f)) (cd := vp_cell (gC g 0) (n1, .inl f1)) (srcPos := sp) (destPos := dp) (n := n) (by rw [hT]; exact hc0) (by rw [hT]; exact hc1)
    (fun _ h => by cases h) (fun _ h => by cases h) (fun h => by cases h) (fun h => by cases h) hk0 hk1 hkk0 hkk1 (by simp [refKind]) h1 h2 h3
    (by rw [nn sp h1, nn n h3]; show ¬ _ > ((arrV (gC g 0) n0 (fun j => .int (f j))).slots.size : Int); rw [arrV_size]; omega)
    (by rw [nn dp h2, nn n h3]; show ¬ _ > ((arrV (gC g 0) n1 (fun j => .int (f1 j))).slots.size : Int); rw [arrV_size]; omega)
    (fun vm₁ _ i hi => by
      have e : (vp_cell (gC g 0) (n0, .inl f)).slots.getD (sp.toNatClampNeg + i) .null = .int (f (sp.toNatClampNeg + i)) := by
        show (arrV (gC g 0) n0 (fun j => .int (f j))).slots.getD _ _ = _
        rw [Array.getD_eq_getD_getElem?, arrV_read _ _ (by omega)]
        rfl
      refine ⟨?_, ?_⟩
      · rw [e]
        rfl
      · rw [e]
        exact trivial)
    (g := F0 m pc ls (.int n :: .int dp :: .ref (L r1 i1) :: .int sp :: .ref (L r0 i0) :: rest)) rfl (by rw [hml]) (rest := rest) rfl (by rw [hb]; exact hdg) hframes (by show 2 * 0 + _ + _ ≤ _; omega)
  have e1 : copied (vp_cell (gC g 0) (n0, .inl f)) (vp_cell (gC g 0) (n1, .inl f1)) sp dp n = vp_cell (gC g 0) (n1, .inl (va_cpy f f1 sp.toNatClampNeg dp.toNatClampNeg n.toNatClampNeg)) := va_copied (fun z => .int z) (gC g 0) (gC g 0) f f1 h4
  rw [e1] at X' step
  have hl : L r1 i1 < H.size := (Array.getElem?_eq_some_iff.mp hc1).1
  have hheap : ((T.setVm vm').setCell (L r1 i1) (vp_cell (gC g 0) (n1, .inl (va_cpy f f1 sp.toNatClampNeg dp.toNatClampNeg n.toNatClampNeg)))).heap = H.setIfInBounds (L r1 i1) (vp_cell (gC g 0) (n1, .inl (va_cpy f f1 sp.toNatClampNeg dp.toNatClampNeg n.toNatClampNeg))) := by rw [← hT]; rfl
  have oq : ∀ q : Nat, q ≠ L r1 i1 → (H.setIfInBounds (L r1 i1) (vp_cell (gC g 0) (n1, .inl (va_cpy f f1 sp.toNatClampNeg dp.toNatClampNeg n.toNatClampNeg))))[q]? = H[q]? := fun q hq => by simp [Array.getElem?_setIfInBounds, Ne.symm hq]
  have hz : gz g ≤ L r1 i1 := (hW.2.1.1 r1 i1 hp1).2
  obtain ⟨t, a1, b1⟩ := kk _ _ ⟨hW.1, hW.2.1.upd hp1 oq (by rw [hnew]; show (H.setIfInBounds (L r1 i1) _)[L r1 i1]? = some _; simp [Array.getElem?_setIfInBounds, hl]) hsame hN hvq hrdy, ⟨by simp; exact hW.2.2.1.1, fun q g1 g2 => by
      rw [oq q (fun e => g2 (by rw [e]; exact hz))]
      exact hW.2.2.1.2.1 q g1 g2, fun q hq => by
      rcases List.mem_append.mp hq with h | h
      · exact hW.2.2.1.2.2 q h
      · obtain ⟨z, -, hz'⟩ := List.mem_map.mp h
        rw [← hz']
        exact hz⟩, hW.2.2.2⟩ _ hheap X'
  exact ⟨t, step t a1, b1⟩
end XCAST
