set_option maxRecDepth 100000
/-! ===== methods with handlers; longs ===== -/
section HSTART
variable {l : Launch} {y : MethodName} {cc : ByteArray} {maxL : Nat} {ret : Option FieldType} {hh : List (Nat × Nat × Nat × Nat)} {g : wg_T} {L : ly_T} {σ : st_T} {fr lo mc ms : Nat} {av : List Value}
def hbody (l : Launch) (y : MethodName) (cc : ByteArray) (maxL : Nat) (ret : Option FieldType) (hh : List (Nat × Nat × Nat × Nat)) (g : wg_T) (L : ly_T) (σ : st_T) (fr lo mc ms : Nat) (av : List Value) (Qc : Array Value → State → Outcome → State → Prop) (XC : String → State → State → Prop) : Prop :=
  ∀ (p : Program) (e : Env) (s : State) (m : MethodId) (args : Array Value) (below : List Frame) (meth : Method) (c : Code) (ls : Array Slot), p.tables.exec = Jvm.exec → c.code = cc → meth.sig.returnType = ret → c.maxLocals = maxL → meth.locks = false → (∀ w ∈ lw_all, w.before args s = true) → s.vm.findClass y.cls = some m.cls → meth.name = y.name → c.exceptionTable.toList = tableOf hh → wv g L σ s s.heap [] → lv_has ls maxL (lv_args 0 av) →
    W p l e (wrm fr lo mc ms) s m args below meth c s.heap [] 0 0 (vx_MQ below Qc XC args s mc ms (fun q => gz g ≤ q)) (F0 m 0 ls [])
theorem hbody.met {Qc : Array Value → State → Outcome → State → Prop} {XC : String → State → State → Prop} (hy : plainName y.cls = true) (hsz : (lg_sl av).length ≤ maxL) (h : hbody l y cc maxL ret hh g L σ fr lo mc ms av Qc XC) : vx_Met l y (wsW_ y cc maxL ret hh) (wrm fr lo mc ms) (va_Pc av (wd g L σ)) Qc XC mc ms (fun q => gz g ≤ q) := by
  refine vx_ofWH (cc := cc) (maxL := maxL) (ret := ret) (hh := hh) hy rfl ?_
  intro p e s m args below meth c s₁ B hml hv
  obtain ⟨hav, hv⟩ := hv
  have hl := lv_entry av hsz
  have hts : ∀ w ∈ lw_all, w.before args s = true := fun w h => atoms_spec (ws := wsW_ y cc maxL ret hh) B.pre w (List.mem_cons_of_mem _ h)
  have htab : c.exceptionTable.toList = tableOf hh := vx_table (x := y) B (atoms_spec (ws := wsW_ y cc maxL ret hh) B.pre _ List.mem_cons_self)
  have k := h p e s m args below meth c _ B.exec B.bytes B.returns hml B.notSynchronized hts (findClass_of_methodNamed B.named) (name_of_methodNamed B.named B.method).1 htab hv.start hl
  subst hav
  rw [lg_entry_eq]
  exact k
/-- nothing is thrown -/
def nX_ : String → State → State → Prop := fun _ _ _ => False
theorem hbody.metN {Qc : Array Value → State → Outcome → State → Prop} (hy : plainName y.cls = true) (hsz : (lg_sl av).length ≤ maxL) (h : hbody l y cc maxL ret hh g L σ fr lo mc ms av Qc nX_) : Met l y (wsW_ y cc maxL ret hh) (wrm fr lo mc ms) (va_Pc av (wd g L σ)) Qc mc ms (fun q => gz g ≤ q) :=
  MetFree.mono (hbody.met hy hsz h) (fun _ _ h => h) (fun _ _ _ _ _ h => h) (fun _ _ _ _ _ q => Or.elim q (fun q => q) (fun q => by obtain ⟨a, -, E, ce, L, hx, -⟩ := q; exact (hx : False).elim))
end HSTART
theorem kp_O {σ : st_T} {v : Int64} : kp_ σ (sO_ σ v) := ⟨rfl, fun _ => rfl⟩
section HCALLS
variable {p : Program} {l : Launch} {e : Env} {R : Room} {s : State} {m : MethodId} {args : Array Value} {below : List Frame} {meth : Method} {c : Code} {H : Heap} {locs : List Loc} {cells slots : Nat} {Q : State → Prop}
variable {pc hpc : Nat} {ls : Array Slot} {rest st0 : List Value} {a : Array Value} {mc ms : Nat} {g : wg_T} {L L0 : ly_T} {σ σ' σ0 : st_T} {Qa : State → Outcome → State → Prop}
/-- a callee that makes nothing threw; caught here -/
theorem ww_catN {α : Type} {k : Nat} (hr : vx_Run p l e R s m args below meth c H locs cells slots mc ms (F0 m pc ls st0) rest Qa (wX g (.inl k : Nat ⊕ α) σ' L) (fun q => gz g ≤ q)) (hno : ∀ (st : State) (v : Option Value) (t : State), Qa st (.returned v) t → False) (hW : wv g L σ s H locs)
    (hcat : ∀ (H1 : Heap) (locs1 : List Loc) (q : Nat) (ce : Cell) (cells1 slots1 : Nat), H1[q]? = some ce → ce.vm = .none → s.vm.findClass (exN k) = some ce.cls → W p l e R s m args below meth c H1 locs1 cells1 slots1 Q (F0 m hpc ls [.ref q]) → vx_W p l e R s m args below meth c H1 locs1 cells1 slots1 Q (F0 m pc ls rest) q)
    (kk : ∀ (H1 : Heap) (locs1 : List Loc) (q : Nat), wv g L (bX_ σ') s H1 locs1 → W p l e R s m args below meth c H1 locs1 (cells + mc) (slots + ms) Q (F0 m hpc ls [.ref q])) : W p l e R s m args below meth c H locs cells slots Q (F0 m pc ls st0) := by
  intro T hT X
  rcases hr T hT X with ⟨v0, st₀, t, T', Lc, h0, X', hL, e1, e2, hq, st⟩ | ⟨q, st₀, t, T', Lc, E, ce, h0, X', hL, e1, e2', ⟨u, hp, ⟨hE, hb⟩, hF⟩, hce, hcv, hcl, st⟩
  · exact (hno _ _ _ hq).elim
  · cases hp
    subst hE
    obtain ⟨k1, k2, k3⟩ := vx_keep h0 e1 hW.2.2.1 (fun q _ h => h) (fun q h => h) hL hF
    have hW1 := (hW.back e1.symm hb k3).bX
    obtain ⟨t2, a1, b1⟩ := hcat T'.heap (locs ++ Lc) q ce _ _ (by rw [e1]; exact hce) hcv hcl (kk _ _ q hW1) T' rfl X'
    exact ⟨t2, st.trans a1, b1⟩
/-- a callee that makes things threw; caught here -/
theorem ww_catA {α : Type} {k : Nat} (hr : vx_Run p l e R s m args below meth c H locs cells slots mc ms (F0 m pc ls st0) rest Qa (yX g L σ (.inl k : Nat ⊕ α) σ') (fun q => gz g ≤ q)) (hno : ∀ (st : State) (v : Option Value) (t : State), Qa st (.returned v) t → False) (hW : wv g L σ s H locs)
    (hcat : ∀ (H1 : Heap) (locs1 : List Loc) (q : Nat) (ce : Cell) (cells1 slots1 : Nat), H1[q]? = some ce → ce.vm = .none → s.vm.findClass (exN k) = some ce.cls → W p l e R s m args below meth c H1 locs1 cells1 slots1 Q (F0 m hpc ls [.ref q]) → vx_W p l e R s m args below meth c H1 locs1 cells1 slots1 Q (F0 m pc ls rest) q)
    (kk : ∀ (H1 : Heap) (locs1 : List Loc) (L1 : ly_T) (q : Nat), lext L σ L1 σ' → wv g L1 σ' s H1 locs1 → W p l e R s m args below meth c H1 locs1 (cells + mc) (slots + ms) Q (F0 m hpc ls [.ref q])) : W p l e R s m args below meth c H locs cells slots Q (F0 m pc ls st0) := by
  intro T hT X
  rcases hr T hT X with ⟨v0, st₀, t, T', Lc, h0, X', hL, e1, e2, hq, st⟩ | ⟨q, st₀, t, T', Lc, E, ce, h0, X', hL, e1, e2', ⟨⟨k', L1⟩, ⟨hp, hx1⟩, ⟨hE, hb⟩, hF⟩, hce, hcv, hcl, st⟩
  · exact (hno _ _ _ hq).elim
  · cases hp
    subst hE
    obtain ⟨k1, k2, k3⟩ := vx_keep h0 e1 hW.2.2.1 (fun q _ h => h) (fun q h => h) hL hF
    have hW1 := hW.back e1.symm hb k3
    obtain ⟨t2, a1, b1⟩ := hcat T'.heap (locs ++ Lc) q ce _ _ (by rw [e1]; exact hce) hcv hcl (kk _ _ L1 q hx1 hW1) T' rfl X'
    exact ⟨t2, st.trans a1, b1⟩
/-- a callee that makes nothing threw, outside of what is tried here -/
theorem wz_propH {α β : Type} {o_ : Nat ⊕ β} {σ_ : st_T} {k : Nat} {Qc : Array Value → State → Outcome → State → Prop} {mc' ms' : Nat} (hr : vx_Run p l e R s m args below meth c H locs cells slots mc ms (F0 m pc ls st0) rest Qa (wX g (.inl k : Nat ⊕ α) σ' L) (fun q => gz g ≤ q)) (hno : ∀ (st : State) (v : Option Value) (t : State), Qa st (.returned v) t → False) (hx : lext L0 σ0 L σ') (hW : wv g L σ s H locs) (hlocks : meth.locks = false) (hout : ∀ x ∈ c.exceptionTable.toList, covers x pc = false) (e1 : o_ = .inl k) (e2 : σ_ = bX_ σ') (hc : cells + mc ≤ mc' ∧ slots + ms ≤ ms') :
    W p l e R s m args below meth c H locs cells slots (vx_MQ below Qc (yX g L0 σ0 o_ σ_) args s mc' ms' (fun q => gz g ≤ q)) (F0 m pc ls st0) := by
  subst e1
  intro T hT X
  rcases hr T hT X with ⟨v0, st₀, t, T', Lc, h0, X', hL, e1, e2, hq, st⟩ | ⟨q, st₀, t, T', Lc, E, ce, h0, X', hL, e1, e2', ⟨u, hp, ⟨hE, hb⟩, hF⟩, hce, hcv, hcl, st⟩
  · exact (hno _ _ _ hq).elim
  · cases hp
    obtain ⟨k1, k2, k3⟩ := vx_keep h0 e1 hW.2.2.1 (fun q _ h => h) (fun q h => h) hL hF
    have hW1 := (hW.back e1.symm hb k3).bX
    have key : vx_W p l e R s m args below meth c T'.heap (locs ++ Lc) (cells + mc) (slots + ms) (vx_MQ below Qc (yX g L0 σ0 (.inl k : Nat ⊕ β) σ_) args s mc' ms' (fun q => gz g ≤ q)) (F0 m pc ls rest) q :=
      vx_out hout hlocks (by rw [e1]; exact hce) hcv hcl (fun t1 ht1 _ => wz_end hW1 (hx.trans lext_bX) rfl e2 (by rw [ht1]; exact Nat.le_refl _) (fun q _ => by rw [ht1]) hE) hW1.locs hc.1 hc.2
    obtain ⟨t2, a1, b1⟩ := key T' rfl X'
    exact ⟨t2, st.trans a1, b1⟩
variable {cc : ByteArray}
/-- the law's long -/
theorem ww_lald (hexec : p.tables.exec = Jvm.exec) (hb : c.code = cc) (hW : wv g L σ s H locs) (hpr : pr σ 100 0) {j : Int32} (hin : vp_in j 1) (hdg : decode cc pc = .ok (.laload, 1))
    (kk : W p l e R s m args below meth c H locs cells slots Q (F0 m (pc + 1) ls (.long (gO_ σ) :: rest))) : W p l e R s m args below meth c H locs cells slots Q (F0 m pc ls (.int j :: .ref (L 100 0) :: rest)) := by
  have hP := ww_at hW hpr
  rw [wE_7 (a := 0) (n := 0) rfl] at hP
  exact va_lald hexec hb hW.1.1 hP 0 3 rfl rfl hin hdg kk
theorem arrV_1 {cI : ClassId} {f f' : Nat → Value} (h : f 0 = f' 0) : arrV cI 1 f = arrV cI 1 f' := by
  unfold arrV
  have e : (Array.ofFn (n := 1) fun j => f j.val) = Array.ofFn (n := 1) fun j => f' j.val := by
    congr 1
    funext j
    have hj : j.val = 0 := by omega
    rw [hj]; exact h
  rw [e]
theorem wE_sO {r i : Nat} {v : Int64} (h : (rK r).1 ≤ 6) : wE g L (sO_ σ v) r i = wE g L σ r i := by
  unfold wE
  have hf : ∀ fk, fvl g L (sO_ σ v) fk r i = fvl g L σ fk r i := fun fk => fvl_ext (fun _ => rfl) (fun _ => rfl)
  have hP : gP_ (sO_ σ v) = gP_ σ := rfl
  have hA : gA_ (sO_ σ v) = gA_ σ := rfl
  simp only [hf, hP, hA]
  rcases hk : rK r with ⟨k, b, n⟩
  rw [hk] at h
  have h : k ≤ 6 := h
  have h9 : k = 0 ∨ k = 1 ∨ k = 2 ∨ k = 3 ∨ k = 4 ∨ k = 5 ∨ k = 6 := by omega
  rcases h9 with rfl | rfl | rfl | rfl | rfl | rfl | rfl <;> rfl
theorem rk_6 : ∀ r : Nat, r < 220 → (rK r).1 ≤ 6 ∨ r = 100 ∨ mu_ r = 0 := by decide +kernel
theorem rk_big {r : Nat} (h : ¬ r < 220) : mu_ r = 0 := by
  unfold mu_ rt_
  have e : rtab.getD r (9, 0, 0, 3, 0) = (9, 0, 0, 3, 0) := by
    rw [List.getD_eq_getElem?_getD, List.getElem?_eq_none (by have : rtab.length = 220 := by decide +kernel
                                                              omega)]
    rfl
  rw [e]
theorem pr_k {r i : Nat} (h : pr σ r i) : (rK r).1 ≤ 6 ∨ r = 100 := by
  have h9 : mu_ r ≠ 0 := fun z => by
    unfold pr at h
    rw [z, Nat.zero_mul] at h
    omega
  by_cases hr : r < 220
  · rcases rk_6 r hr with k | k | k
    · exact Or.inl k
    · exact Or.inr k
    · exact (h9 k).elim
  · exact (h9 (rk_big hr)).elim
theorem pr_100 (hN : gN_ σ 100 = 1) {i : Nat} : pr σ 100 i ↔ i = 0 := by
  show i < 1 * gN_ σ 100 ↔ i = 0
  rw [hN]
  omega
theorem ww_last (hexec : p.tables.exec = Jvm.exec) (hb : c.code = cc) (hW : wv g L σ s H locs) (hN : gN_ σ 100 = 1) {x : Int64} {j : Int32} (hj : j = 0) (hdg : decode cc pc = .ok (.lastore, 1))
    (kk : ∀ (H1 : Heap) (locs1 : List Loc), wv g L (sO_ σ x) s H1 locs1 → W p l e R s m args below meth c H1 locs1 cells slots Q (F0 m (pc + 1) ls rest)) : W p l e R s m args below meth c H locs cells slots Q (F0 m pc ls (.long x :: .int j :: .ref (L 100 0) :: rest)) := by
  subst hj
  have hpr : pr σ 100 0 := (pr_100 hN).mpr rfl
  have hP := (hW.2.1.1 100 0 hpr).1
  have hz := (hW.2.1.1 100 0 hpr).2
  rw [wE_7 (a := 0) (n := 0) rfl] at hP
  refine W.last hexec hb hP ((hW.1.1.2 3 _ rfl).1 1 (fun j => .long (gO_ σ))) (fun q => by cases q) (by show ¬ ((0 : Int32) < 0 ∨ (arrV _ _ _).slots.size ≤ _); rw [arrV_size]; show ¬ ((0 : Int32) < 0 ∨ 1 ≤ (0 : Int32).toNatClampNeg); decide) rfl rfl hdg fun H1 e z oq => ?_
  refine kk H1 _ ⟨hW.1, ⟨fun r' i' hp => ?_, hW.2.1.2.1, ?_, fun hg => rdy_FA rfl rfl (hW.2.1.2.2.2 hg)⟩, hW.2.2.1.put z oq hz, hW.2.2.2⟩
  · have hp0 : pr σ r' i' := hp
    refine ⟨?_, (hW.2.1.1 r' i' hp0).2⟩
    by_cases e9 : r' = 100
    · subst e9
      have e8 := (pr_100 hN).mp hp0
      subst e8
      rw [wE_7 (a := 0) (n := 0) rfl]
      show H1[L 100 0]? = some (vp_cell _ _)
      rw [e, vp_cell_l, vp_cell_l, arrV_store]
      congr 1 <;> exact arrV_1 (by simp [updV])
    · have hk := (pr_k hp0).resolve_right e9
      rw [wE_sO hk]
      exact (hW.2.1.1 r' i' hp0).1.kept (oq _ (fun q => e9 (hW.2.1.2.1 r' i' 100 0 hp0 hpr q).1))
  · exact vq_FA rfl rfl hW.2.1.2.2.1
theorem ww_newJ (hexec : p.tables.exec = Jvm.exec) (hb : c.code = cc) (harr : (Cond.arrayClass (newarray.typeOf .long)).before args s = true) (hW : wv g L σ s H locs) (hs : sole_ 100) (hO : gO_ σ = 0) {n : Int32} (hn : n = 1) (hgm : gm g = false) (hcells : cells + 1 ≤ R.cells) (hslots : slots + 1 ≤ R.slots) (hdg : decode cc pc = .ok (.newarray .long, 2))
    (kk : ∀ (H1 : Heap) (L1 : ly_T), lext L σ L1 (nA_ σ 100 1) → wv g L1 (nA_ σ 100 1) s H1 locs → W p l e R s m args below meth c H1 locs (cells + 1) (slots + 1) Q (F0 m (pc + 2) ls (.ref (L1 100 (gN_ σ 100)) :: rest))) : W p l e R s m args below meth c H locs cells slots Q (F0 m pc ls (.int n :: rest)) := by
  subst hn
  refine va_newaK (atype := .long) hexec hb harr rfl hdg rfl (by decide) (by rfl) (Nat.le_of_ble_eq_true rfl) hcells hslots rfl fun H1 cA e1 z1 o1 hAr hNm => ?_
  have hcA : cA = gC g 3 := by
    have h2 := (hW.1.1.2 3 (gC g 3, .long) rfl).2
    exact Option.some.inj (hNm.symm.trans h2)
  have hl0 : ∀ r' i', pr σ r' i' → lset L 100 (gN_ σ (ow_ 100)) H.size r' i' = L r' i' := fun r' i' hp => by unfold lset; rw [if_neg (pr_ne hs hp)]
  have hln : lset L 100 (gN_ σ (ow_ 100)) H.size 100 (gN_ σ (ow_ 100)) = H.size := by unfold lset; rw [if_pos ⟨rfl, rfl⟩]
  have hnt : ∀ q j, ¬ tg (nA_ σ 100 1) 100 (gN_ σ (ow_ 100)) q j := by
    rintro q j (⟨ci', fk', k, d, (⟨b, h1, -⟩ | ⟨a, b, h1, -⟩), -⟩ | ⟨t', n, c', (h1 | h1), -⟩ | ⟨n, c', h1, -⟩)
    · cases h1
    · cases h1
    · cases h1
    · cases h1
    · cases h1
  have hw : wv g (lset L 100 (gN_ σ (ow_ 100)) H.size) (nA_ σ 100 1) s H1 locs := by
    refine hW.push (n := gN_ σ (ow_ 100)) z1 o1 hl0 hln ?_ (fun r' i' hp => pr_own hs rfl hp) (fun r' i' hp => pr_own' rfl hp) (fun r' i' hp => nA_old hs hp) rfl hnt (fun hg => by rw [hgm] at hg; cases hg)
    rw [wE_7 (a := 0) (n := 0) rfl]
    show H1[H.size]? = some (vp_cell (gC g 3) (1, .inr (.inl fun _ => gO_ σ)))
    rw [vp_cell_l, e1, hcA, hO]
    rfl
  have k := kk H1 _ (lext_new hs rfl (Nat.le_succ _) (Nat.le_add_right _ _)) hw
  rw [show gN_ σ 100 = gN_ σ (ow_ 100) from rfl, hln] at k
  exact k
end HCALLS
