set_option maxRecDepth 100000
/-! ===== fields set while a thing is made ===== -/
/-- a pointer (or its mark) set -/
def sM_ (σ : st_T) (r k i n : Nat) : st_T := sP_ (sP_ σ r k i n) r (200 + k) i 1
theorem gP_sM {σ : st_T} {r k i n r' k' i' : Nat} : gP_ (sM_ σ r k i n) r' k' i' = if r' = r ∧ k' = 200 + k ∧ i' = i then 1 else if r' = r ∧ k' = k ∧ i' = i then n else gP_ σ r' k' i' := rfl
theorem wy_putF {p : Program} {l : Launch} {e : Env} {R : Room} {s : State} {m : MethodId} {args : Array Value} {below : List Frame} {meth : Method} {c : Code} {H : Heap} {locs : List Loc} {cells slots : Nat} {Q : State → Prop} {cc : ByteArray} {pc : Nat} {ls : Array Slot} {rest : List Value} {own : String} (hexec : p.tables.exec = Jvm.exec) (hb : c.code = cc) {ref C : String} {T : u_T} {N ci index : Nat} (hts : ∀ w ∈ lw_all, w.before args s = true) (hin : ∀ w ∈ u_ws C T N, w ∈ lw_all) (ty0 : Nat → FieldType) (hty : ∀ k, k < N → parseFieldDescriptor (T k).2.2.1 = some (ty0 k)) (hnm : ∀ a, a < N → ∀ b, b < N → a ≠ b → (T a).2.1 ≠ (T b).2.1) (hown : s.vm.findClass own = some m.cls) {D : va_G} {cl : List vw_C} {tys : List (ClassId × FieldType)} (hK : va_K D cl tys s) {a : Nat} {fs : List Value} (hP : va_at D cl (a, .inr (ci, fs)) H) (hc : cl[ci]? = some (C, T, N)) (k : Nat) (hk : k < N)
    (hlink : (Cond.fieldLink own index ref (T k).2.1 (T k).2.2.1).before args s = true) (hsame : ∀ x, s.fieldFound? (T k).1 (T k).2.1 (T k).2.2.1 = some x → s.fieldFound? ref (T k).2.1 (T k).2.2.1 = some x) (hfin : (T k).2.2.2 = true) (hin2 : meth.name = "<init>") (hdecl : (T k).1 = own) {ty : FieldType} {v : Value} (hd : parseFieldDescriptor (T k).2.2.1 = some ty) (hn : narrow ty v = v) (hfit : fits ty v = true) (hl : k < fs.length)
    (hdg : decode cc pc = .ok (.putfield index, 3)) (kk : ∀ (H1 : Heap) (j : Nat), va_at D cl (a, .inr (ci, fs.set k v)) H1 → H1.size = H.size → (∀ q : Nat, q ≠ a → H1[q]? = H[q]?) → W p l e R s m args below meth c H1 (locs ++ [⟨a, j⟩]) cells slots Q (F0 m (pc + 3) ls rest)) : W p l e R s m args below meth c H locs cells slots Q (F0 m pc ls (v :: .ref a :: rest)) := by
  have hap := va_apart (own := own) hts hin ty0 hty hnm hK hc
  obtain ⟨r, h1, cell, q1, q2, q3, q4⟩ := hP
  have hr : r = (C, T, N) := Option.some.inj (h1.symm.trans hc)
  subst hr
  obtain ⟨hS, hfc, kC, hkC, hkind⟩ := hK.1 ci _ hc
  obtain ⟨cf, kf, fi, f, hi, hsl⟩ := hS k hk
  have hlay := hts _ (hin _ (u_in_lay hk))
  unfold u_lay at hlay
  rw [if_pos hfin] at hlay
  have hst := (u_facts hfc hkC (u_lays hts hin hk) hi).1
  have hcf : m.cls = cf := by
    obtain ⟨_, _, c', _, _, _, -, -, hf', -, -, -, hown2, -⟩ := Cond.laysFinal_spec hlay
    have e1 : c' = cf := by have := hi.symm.trans hf'; simp at this; exact this.1.symm
    rw [hdecl] at hown2
    rw [← e1]; exact Option.some.inj (hown.symm.trans hown2)
  have h6 := u_fits hfc hkC hkind (Or.inr hlay) hi hd hn hfit
  refine W.putFinK hexec hb hown hlink (hsame _ hi) hst hcf hin2 (by rw [q2]; exact h6) q1 q3 (by rw [hsl]; exact k2_hasslot (q4 k hk)) rfl rfl hdg fun H' e1 e2 e3 => ?_
  rw [hsl] at e1 ⊢
  exact kk H' _ ⟨_, hc, t_OB.to (V := updV (vp_V fs) k v) ⟨_, e1, q2, q3, t_set q4 hap hk v⟩ (fun j _ => vp_updV_set hl v j)⟩ e2 e3
theorem fvl_setM {g : wg_T} {L : ly_T} {σ : st_T} {fk : List (Nat × Nat × Nat)} {r i k n : Nat} {d : Nat × Nat × Nat} (h : fk[k]? = some d) (h0 : d.1 ≠ 0) (hlen : fk.length ≤ 199) : (fvl g L σ fk r i).set k (.ref (fp g L (sM_ σ r k i n) r i k d)) = fvl g L (sM_ σ r k i n) fk r i := by
  apply List.ext_getElem?
  intro a
  have hk : k < fk.length := (List.getElem?_eq_some_iff.mp h).1
  by_cases hn : a = k
  · subst hn
    rw [List.getElem?_set_self (by unfold fvl; rw [List.length_mapIdx]; exact hk), fvl_at h, fv_p h0 (by rw [gP_sM, if_pos ⟨rfl, rfl, rfl⟩]; exact Nat.one_ne_zero)]
  · rw [List.getElem?_set_ne (Ne.symm hn)]
    unfold fvl
    rw [List.getElem?_mapIdx, List.getElem?_mapIdx]
    cases hf : fk[a]? with
    | none => rfl
    | some d =>
      have ha : a < fk.length := (List.getElem?_eq_some_iff.mp hf).1
      exact congrArg some (fv_ext (g := g) (L := L) (σ := σ) (σ' := sM_ σ r k i n) (r := r) (i := i) (k := a) d rfl (fun m hm => by rw [gP_sM, if_neg (fun z => by omega), if_neg (fun z => by omega)])).symm
theorem wE_sM {g : wg_T} {L : ly_T} {σ : st_T} {r k i n r' i' : Nat} (h : ¬ (r' = r ∧ i' = i)) : wE g L (sM_ σ r k i n) r' i' = wE g L σ r' i' := wE_ext (fun _ => rfl) rfl (fun k' => by rw [gP_sM, if_neg (fun z => h ⟨z.1, z.2.2⟩), if_neg (fun z => h ⟨z.1, z.2.2⟩)]) rfl
theorem obv_sM {σ : st_T} {r i k n r' i' ci : Nat} {fk : List (Nat × Nat × Nat)} (hk : k < 199) : obv (sM_ σ r k i n) r' i' ci fk ↔ obv σ r' i' ci fk := by
  unfold obv
  rw [gP_sM, if_neg (fun z => by omega), if_neg (fun z => by omega)]
theorem vq_sM {σ : st_T} {r i k n ci : Nat} {d : Nat × Nat × Nat} {fk : List (Nat × Nat × Nat)} (h : vq σ) (ho : obv σ r i ci fk) (hd : fk[k]? = some d) (hk : k < 199) (hlen : fk.length ≤ 199) (hn : ∀ q j, tgd (sM_ σ r k i n) r i k d q j → pr σ q j) : vq (sM_ σ r k i n) := by
  intro r' i' hp q' j' ht
  have hp0 : pr σ r' i' := hp
  show pr σ q' j'
  have hob : (rK r).1 = 0 ∨ (rK r).1 = 6 := by
    rcases ho with ⟨b, ho, -⟩ | ⟨a, b, ho, -, -⟩
    · exact Or.inl (by rw [ho])
    · exact Or.inr (by rw [ho])
  by_cases e : r' = r ∧ i' = i
  · obtain ⟨rfl, rfl⟩ := e
    rcases ht with ⟨ci', fk', k', d', h1, h2, h3, h4⟩ | ⟨t, n', c, h1, -, -, -⟩ | ⟨n', c, h1, -, -⟩
    · have h1 := (obv_sM hk).mp h1
      obtain ⟨rfl, rfl⟩ := obv_fn h1 ho
      by_cases ek : k' = k
      · subst ek
        rw [hd] at h2
        cases h2
        exact hn q' j' h4
      · have hk' : k' < fk'.length := (List.getElem?_eq_some_iff.mp h2).1
        refine h r' i' hp0 q' j' (Or.inl ⟨ci', fk', k', d', h1, h2, ?_, ?_⟩)
        · rw [gP_sM, if_neg (fun z => by omega), if_neg (fun z => by omega)] at h3
          exact h3
        · unfold tgd at h4 ⊢
          rw [gP_sM, if_neg (fun z => by omega), if_neg (fun z => by omega)] at h4
          exact h4
    · rcases h1 with h1 | h1 <;> rw [h1] at hob <;> exact absurd hob (by show ¬ ((_ : Nat) = 0 ∨ (_ : Nat) = 6); omega)
    · rw [h1] at hob
      exact absurd hob (by show ¬ ((5 : Nat) = 0 ∨ (5 : Nat) = 6); omega)
  · exact h r' i' hp0 q' j' (tg_ext (fun k' => by rw [gP_sM, if_neg (fun z => e ⟨z.1, z.2.2⟩), if_neg (fun z => e ⟨z.1, z.2.2⟩)]) ht)
theorem rdy_sM {σ : st_T} {r k i n : Nat} (hk : k < 199) (h : rdy σ) : rdy (sM_ σ r k i n) := by
  refine ⟨h.1, fun r' i' k' d hr hp hd h0 => ?_⟩
  rw [gP_sM]
  split
  · exact Nat.one_ne_zero
  · rw [if_neg (fun z => by omega)]
    exact h.2 r' i' k' d hr hp hd h0
theorem wv.mark {g : wg_T} {L : ly_T} {σ : st_T} {s : State} {H H1 : Heap} {locs : List Loc} (hW : wv g L σ s H locs) {r i k n ci j' : Nat} {fk : List (Nat × Nat × Nat)} {d : Nat × Nat × Nat} (hpr : pr σ r i) (ho : obv σ r i ci fk) (hd : fk[k]? = some d) (h0 : d.1 ≠ 0) (hlen : fk.length ≤ 199) (ht : ∀ q j, tgd (sM_ σ r k i n) r i k d q j → pr σ q j) (e1 : va_at (gD g) wcl (L r i, .inr (ci, (fvl g L σ fk r i).set k (.ref (fp g L (sM_ σ r k i n) r i k d)))) H1) (e2 : H1.size = H.size) (e3 : ∀ q : Nat, q ≠ L r i → H1[q]? = H[q]?) : wv g L (sM_ σ r k i n) s H1 (locs ++ [⟨L r i, j'⟩]) := by
  have hk : k < 199 := Nat.lt_of_lt_of_le (List.getElem?_eq_some_iff.mp hd).1 hlen
  rw [fvl_setM hd h0 hlen] at e1
  exact hW.put hpr (by rw [wE_ob ((obv_sM hk).mpr ho)]; exact e1) e2 e3 (fun r' i' h => wE_sM h) rfl (fun h => vq_sM h ho hd hk hlen ht) (rdy_sM hk)
section WSET
variable {p : Program} {l : Launch} {e : Env} {R : Room} {s : State} {m : MethodId} {args : Array Value} {below : List Frame} {meth : Method} {c : Code} {H : Heap} {locs : List Loc} {cells slots : Nat} {Q : State → Prop}
variable {cc : ByteArray} {pc : Nat} {ls : Array Slot} {rest : List Value} {g : wg_T} {L : ly_T} {σ : st_T} {own : String}
theorem ww_markF (hexec : p.tables.exec = Jvm.exec) (hb : c.code = cc) (hts : ∀ w ∈ lw_all, w.before args s = true) (hown : s.vm.findClass own = some m.cls) (hnm0 : meth.name = "<init>") (hW : wv g L σ s H locs) {ref C : String} {T : u_T} {N ci index : Nat} {fk : List (Nat × Nat × Nat)} {ty0 : Nat → FieldType} (r i k n : Nat) {d : Nat × Nat × Nat} (hpr : pr σ r i) (ht : ∀ q j, tgd (sM_ σ r k i n) r i k d q j → pr σ q j) (hr : obv σ r i ci fk) (hd : fk[k]? = some d) (h0 : d.1 ≠ 0) (hlen : fk.length ≤ 199) (hin : ∀ w ∈ u_ws C T N, w ∈ lw_all) (hty : ∀ k, k < N → parseFieldDescriptor (T k).2.2.1 = some (ty0 k)) (hnm : ∀ a, a < N → ∀ b, b < N → a ≠ b → (T a).2.1 ≠ (T b).2.1) (hc : wcl[ci]? = some (C, T, N)) (hk : k < N)
    (hlink : (Cond.fieldLink own index ref (T k).2.1 (T k).2.2.1).before args s = true) (hsame : ∀ x, s.fieldFound? (T k).1 (T k).2.1 (T k).2.2.1 = some x → s.fieldFound? ref (T k).2.1 (T k).2.2.1 = some x) (hfin : (T k).2.2.2 = true) (hdecl : (T k).1 = own) {ty : FieldType} (hde : parseFieldDescriptor (T k).2.2.1 = some ty) (hn : ∀ a : Nat, narrow ty (.ref a) = .ref a) (hfit : ∀ a : Nat, fits ty (.ref a) = true) {v : Value} (hv : v = .ref (fp g L (sM_ σ r k i n) r i k d)) (hdg : decode cc pc = .ok (.putfield index, 3))
    (kk : ∀ (H1 : Heap) (locs1 : List Loc), wv g L (sM_ σ r k i n) s H1 locs1 → W p l e R s m args below meth c H1 locs1 cells slots Q (F0 m (pc + 3) ls rest)) : W p l e R s m args below meth c H locs cells slots Q (F0 m pc ls (v :: .ref (L r i) :: rest)) := by
  have hP := (hW.2.1.1 r i hpr).1
  rw [wE_ob hr] at hP
  subst hv
  exact wy_putF hexec hb hts hin ty0 hty hnm hown hW.1.1 hP hc k hk hlink hsame hfin hnm0 hdecl hde (hn _) (hfit _) (by unfold fvl; rw [List.length_mapIdx]; exact (List.getElem?_eq_some_iff.mp hd).1) hdg fun H1 j' e1 e2 e3 => kk H1 _ (hW.mark hpr hr hd h0 hlen ht e1 e2 e3)
theorem ww_mark (hexec : p.tables.exec = Jvm.exec) (hb : c.code = cc) (hts : ∀ w ∈ lw_all, w.before args s = true) (hown : s.vm.findClass own = some m.cls) (hW : wv g L σ s H locs) {ref C : String} {T : u_T} {N ci index : Nat} {fk : List (Nat × Nat × Nat)} {ty0 : Nat → FieldType} (r i k n : Nat) {d : Nat × Nat × Nat} (hpr : pr σ r i) (ht : ∀ q j, tgd (sM_ σ r k i n) r i k d q j → pr σ q j) (hr : obv σ r i ci fk) (hd : fk[k]? = some d) (h0 : d.1 ≠ 0) (hlen : fk.length ≤ 199) (hin : ∀ w ∈ u_ws C T N, w ∈ lw_all) (hty : ∀ k, k < N → parseFieldDescriptor (T k).2.2.1 = some (ty0 k)) (hnm : ∀ a, a < N → ∀ b, b < N → a ≠ b → (T a).2.1 ≠ (T b).2.1) (hc : wcl[ci]? = some (C, T, N)) (hk : k < N)
    (hlink : (Cond.fieldLink own index ref (T k).2.1 (T k).2.2.1).before args s = true ∨ ∃ host, (Cond.fieldLinkNest own index ref (T k).2.1 (T k).2.2.1 host).before args s = true) (hsame : ∀ x, s.fieldFound? (T k).1 (T k).2.1 (T k).2.2.1 = some x → s.fieldFound? ref (T k).2.1 (T k).2.2.1 = some x) (hfin : (T k).2.2.2 = false) {ty : FieldType} (hde : parseFieldDescriptor (T k).2.2.1 = some ty) (hn : ∀ a : Nat, narrow ty (.ref a) = .ref a) (hfit : ∀ a : Nat, fits ty (.ref a) = true) {v : Value} (hv : v = .ref (fp g L (sM_ σ r k i n) r i k d)) (hdg : decode cc pc = .ok (.putfield index, 3))
    (kk : ∀ (H1 : Heap) (locs1 : List Loc), wv g L (sM_ σ r k i n) s H1 locs1 → W p l e R s m args below meth c H1 locs1 cells slots Q (F0 m (pc + 3) ls rest)) : W p l e R s m args below meth c H locs cells slots Q (F0 m pc ls (v :: .ref (L r i) :: rest)) := by
  have hP := (hW.2.1.1 r i hpr).1
  rw [wE_ob hr] at hP
  subst hv
  exact wy_put hexec hb hts hin ty0 hty hnm hown hW.1.1 hP hc k hk hlink hsame hfin hde (hn _) (hfit _) (by unfold fvl; rw [List.length_mapIdx]; exact (List.getElem?_eq_some_iff.mp hd).1) hdg fun H1 j' e1 e2 e3 => kk H1 _ (hW.mark hpr hr hd h0 hlen ht e1 e2 e3)
theorem ww_putF (hexec : p.tables.exec = Jvm.exec) (hb : c.code = cc) (hts : ∀ w ∈ lw_all, w.before args s = true) (hown : s.vm.findClass own = some m.cls) (hnm0 : meth.name = "<init>") (hW : wv g L σ s H locs) {ref C : String} {T : u_T} {N ci index q j : Nat} {fk : List (Nat × Nat × Nat)} {ty0 : Nat → FieldType} (r i k : Nat) (hpr : pr σ r i) (hr : obv σ r i ci fk) (hd : fk[k]? = some (0, q, j)) (hin : ∀ w ∈ u_ws C T N, w ∈ lw_all) (hty : ∀ k, k < N → parseFieldDescriptor (T k).2.2.1 = some (ty0 k)) (hnm : ∀ a, a < N → ∀ b, b < N → a ≠ b → (T a).2.1 ≠ (T b).2.1) (hc : wcl[ci]? = some (C, T, N)) (hk : k < N)
    (hlink : (Cond.fieldLink own index ref (T k).2.1 (T k).2.2.1).before args s = true) (hsame : ∀ x, s.fieldFound? (T k).1 (T k).2.1 (T k).2.2.1 = some x → s.fieldFound? ref (T k).2.1 (T k).2.2.1 = some x) (hfin : (T k).2.2.2 = true) (hdecl : (T k).1 = own) {ty : FieldType} {v : Int32} (hde : parseFieldDescriptor (T k).2.2.1 = some ty) (hn : narrow ty (.int v) = .int v) (hfit : fits ty (.int v) = true) (hdg : decode cc pc = .ok (.putfield index, 3))
    (kk : ∀ (H1 : Heap) (locs1 : List Loc), wv g L (sF_ σ r k i v) s H1 locs1 → W p l e R s m args below meth c H1 locs1 cells slots Q (F0 m (pc + 3) ls rest)) : W p l e R s m args below meth c H locs cells slots Q (F0 m pc ls (.int v :: .ref (L r i) :: rest)) := by
  have hP := (hW.2.1.1 r i hpr).1
  rw [wE_ob hr] at hP
  refine wy_putF hexec hb hts hin ty0 hty hnm hown hW.1.1 hP hc k hk hlink hsame hfin hnm0 hdecl hde hn hfit (by unfold fvl; rw [List.length_mapIdx]; exact (List.getElem?_eq_some_iff.mp hd).1) hdg fun H1 j' e1 e2 e3 => ?_
  rw [fvl_set hd] at e1
  exact kk H1 _ (hW.put hpr (by rw [wE_ob (g := g) (L := L) (σ := sF_ σ r k i v) (fk := fk) (ci := ci) hr]; exact e1) e2 e3 (fun r' i' h => wE_sF h) rfl (vq_FA rfl rfl) (rdy_FA rfl rfl))
end WSET
/-! ===== contracts of methods that make things ===== -/
abbrev wAi (g : wg_T) (L : ly_T) (σ : st_T) (v : Int32) (σ' : st_T) : Array Value → State → Outcome → State → Prop := va_Qi (fun (r : Int32) (L1 : ly_T) => r = v ∧ lext L σ L1 σ') (fun L1 t => wq g L1 σ' t.heap) (fun q => gz g ≤ q)
abbrev wAv (g : wg_T) (L : ly_T) (σ : st_T) (σ' : st_T) : Array Value → State → Outcome → State → Prop := va_Qv (fun (L1 : ly_T) => lext L σ L1 σ') (fun L1 t => wq g L1 σ' t.heap) (fun q => gz g ≤ q)
abbrev wAr (g : wg_T) (L : ly_T) (σ : st_T) (rg v : Nat) (σ' : st_T) : Array Value → State → Outcome → State → Prop := va_Qr (fun (L1 : ly_T) => lext L σ L1 σ') (fun L1 a t => a = L1 rg v ∧ wq g L1 σ' t.heap) (fun q => gz g ≤ q)
abbrev yX {α : Type} (g : wg_T) (L : ly_T) (σ : st_T) (o : Nat ⊕ α) (σ' : st_T) : String → State → State → Prop := vx_X (fun (u : Nat × ly_T) => o = .inl u.1 ∧ lext L σ u.2 σ') (fun E u t => E = exN u.1 ∧ wq g u.2 σ' t.heap) (fun q => gz g ≤ q)
abbrev yXi (g : wg_T) (L : ly_T) (σ : st_T) (o : Nat ⊕ Int32) (σ' : st_T) : Array Value → State → Outcome → State → Prop := va_Qi (fun (r : Int32) (L1 : ly_T) => o = .inr r ∧ lext L σ L1 σ') (fun L1 t => wq g L1 σ' t.heap) (fun q => gz g ≤ q)
abbrev yXv (g : wg_T) (L : ly_T) (σ : st_T) (o : Nat ⊕ Unit) (σ' : st_T) : Array Value → State → Outcome → State → Prop := va_Qv (fun (L1 : ly_T) => o = .inr () ∧ lext L σ L1 σ') (fun L1 t => wq g L1 σ' t.heap) (fun q => gz g ≤ q)
abbrev yXr (g : wg_T) (L : ly_T) (σ : st_T) (rg : Nat) (o : Nat ⊕ Nat) (σ' : st_T) : Array Value → State → Outcome → State → Prop := va_Qr (fun (L1 : ly_T) => lext L σ L1 σ') (fun L1 a t => (∃ v, o = .inr v ∧ a = L1 rg v) ∧ wq g L1 σ' t.heap) (fun q => gz g ≤ q)
abbrev wrA (fr lo : Nat) (σ σ' : st_T) : Room := wrm fr lo (cu_ σ' - cu_ σ) (su_ σ' - su_ σ)
def AI (g : wg_T) (l : Launch) (y : MethodName) (ws : List Cond) (fr lo : Nat) (av : List Value) (L : ly_T) (σ : st_T) (v : Int32) (σ' : st_T) : Prop := Met l y ws (wrA fr lo σ σ') (va_Pc av (wd g L σ)) (wAi g L σ v σ') (cu_ σ' - cu_ σ) (su_ σ' - su_ σ) (fun q => gz g ≤ q)
def AV (g : wg_T) (l : Launch) (y : MethodName) (ws : List Cond) (fr lo : Nat) (av : List Value) (L : ly_T) (σ : st_T) (σ' : st_T) : Prop := Met l y ws (wrA fr lo σ σ') (va_Pc av (wd g L σ)) (wAv g L σ σ') (cu_ σ' - cu_ σ) (su_ σ' - su_ σ) (fun q => gz g ≤ q)
def AR (g : wg_T) (l : Launch) (y : MethodName) (ws : List Cond) (fr lo : Nat) (av : List Value) (L : ly_T) (σ : st_T) (rg v : Nat) (σ' : st_T) : Prop := Met l y ws (wrA fr lo σ σ') (va_Pc av (wd g L σ)) (wAr g L σ rg v σ') (cu_ σ' - cu_ σ) (su_ σ' - su_ σ) (fun q => gz g ≤ q)
def YI (g : wg_T) (l : Launch) (y : MethodName) (ws : List Cond) (fr lo : Nat) (av : List Value) (L : ly_T) (σ : st_T) (o : Nat ⊕ Int32) (σ' : st_T) : Prop := vx_Met l y ws (wrA fr lo σ σ') (va_Pc av (wd g L σ)) (yXi g L σ o σ') (yX g L σ o σ') (cu_ σ' - cu_ σ) (su_ σ' - su_ σ) (fun q => gz g ≤ q)
def YV (g : wg_T) (l : Launch) (y : MethodName) (ws : List Cond) (fr lo : Nat) (av : List Value) (L : ly_T) (σ : st_T) (o : Nat ⊕ Unit) (σ' : st_T) : Prop := vx_Met l y ws (wrA fr lo σ σ') (va_Pc av (wd g L σ)) (yXv g L σ o σ') (yX g L σ o σ') (cu_ σ' - cu_ σ) (su_ σ' - su_ σ) (fun q => gz g ≤ q)
def YR (g : wg_T) (l : Launch) (y : MethodName) (ws : List Cond) (fr lo : Nat) (av : List Value) (L : ly_T) (σ : st_T) (rg : Nat) (o : Nat ⊕ Nat) (σ' : st_T) : Prop := vx_Met l y ws (wrA fr lo σ σ') (va_Pc av (wd g L σ)) (yXr g L σ rg o σ') (yX g L σ o σ') (cu_ σ' - cu_ σ) (su_ σ' - su_ σ) (fun q => gz g ≤ q)
/-- the book of cells -/
def bk (σ0 σ : st_T) (cells slots : Nat) : Prop := (cu_ σ0 ≤ cu_ σ ∧ su_ σ0 ≤ su_ σ) ∧ cells ≤ cu_ σ - cu_ σ0 ∧ slots ≤ su_ σ - su_ σ0
theorem bk.start {σ0 σ : st_T} (h : σ0 = σ) : bk σ0 σ 0 0 := by subst h; exact ⟨⟨Nat.le_refl _, Nat.le_refl _⟩, Nat.zero_le _, Nat.zero_le _⟩
theorem bk.more {σ0 σ σ1 : st_T} {cells slots a b : Nat} (h : bk σ0 σ cells slots) (h1 : cu_ σ1 = cu_ σ + a) (h2 : su_ σ1 = su_ σ + b) : bk σ0 σ1 (cells + a) (slots + b) := by
  obtain ⟨⟨e1, e2⟩, e3, e4⟩ := h
  refine ⟨⟨?_, ?_⟩, ?_, ?_⟩ <;> omega
theorem bk.call {σ0 σ σ1 : st_T} {cells slots : Nat} (h : bk σ0 σ cells slots) (hc : cu_ σ ≤ cu_ σ1 ∧ su_ σ ≤ su_ σ1) : bk σ0 σ1 (cells + (cu_ σ1 - cu_ σ)) (slots + (su_ σ1 - su_ σ)) := by
  obtain ⟨⟨e1, e2⟩, e3, e4⟩ := h
  refine ⟨⟨?_, ?_⟩, ?_, ?_⟩ <;> omega
theorem bk.room {σ0 σ σ1 σ_ : st_T} {cells slots a b : Nat} (h : bk σ0 σ cells slots) (h1 : cu_ σ1 = cu_ σ + a) (h2 : su_ σ1 = su_ σ + b) (hk : cu_ σ1 ≤ cu_ σ_ ∧ su_ σ1 ≤ su_ σ_) : cells + a ≤ cu_ σ_ - cu_ σ0 ∧ slots + b ≤ su_ σ_ - su_ σ0 := by
  obtain ⟨⟨e1, e2⟩, e3, e4⟩ := h
  constructor <;> omega
theorem bk.roomC {σ0 σ σ1 σ_ : st_T} {cells slots : Nat} (h : bk σ0 σ cells slots) (hc : cu_ σ ≤ cu_ σ1 ∧ su_ σ ≤ su_ σ1) (hk : cu_ σ1 ≤ cu_ σ_ ∧ su_ σ1 ≤ su_ σ_) : cells + (cu_ σ1 - cu_ σ) ≤ cu_ σ_ - cu_ σ0 ∧ slots + (su_ σ1 - su_ σ) ≤ su_ σ_ - su_ σ0 := by
  obtain ⟨⟨e1, e2⟩, e3, e4⟩ := h
  constructor <;> omega
/-- what comes after keeps the book -/
def ck1_ (σ : st_T) (x : Option st_T) : Option st_T := x.bind fun o => if cu_ σ ≤ cu_ o ∧ su_ σ ≤ su_ o then some o else none
def ck2_ {α : Type} (σ : st_T) (x : Option (α × st_T)) : Option (α × st_T) := x.bind fun o => if cu_ σ ≤ cu_ o.2 ∧ su_ σ ≤ su_ o.2 then some o else none
theorem ww_ck1 {σ σ_ : st_T} {x : Option st_T} (h : ck1_ σ x = some σ_) : x = some σ_ ∧ (cu_ σ ≤ cu_ σ_ ∧ su_ σ ≤ su_ σ_) := by
  cases x with
  | none => cases h
  | some o =>
    unfold ck1_ at h
    rw [Option.bind_some] at h
    obtain ⟨h1, h2⟩ := ww_chk h
    cases h2
    exact ⟨rfl, h1⟩
theorem ww_ck2 {α : Type} {σ σ_ : st_T} {a : α} {x : Option (α × st_T)} (h : ck2_ σ x = some (a, σ_)) : x = some (a, σ_) ∧ (cu_ σ ≤ cu_ σ_ ∧ su_ σ ≤ su_ σ_) := by
  cases x with
  | none => cases h
  | some o =>
    unfold ck2_ at h
    rw [Option.bind_some] at h
    obtain ⟨h1, h2⟩ := ww_chk h
    cases h2
    exact ⟨rfl, h1⟩
/-- nothing made -/
def kp_ (σ σ1 : st_T) : Prop := gN_ σ1 = gN_ σ ∧ ∀ k, gP_ σ1 250 k 0 = gP_ σ 250 k 0
/-- if c holds (as a plain proposition) -/
noncomputable def pif_ {α : Type} (c : Prop) (x : Option α) : Option α := @ite _ c (Classical.propDecidable c) x none
theorem ww_pif {α : Type} {c : Prop} {x : Option α} {y : α} (h : pif_ c x = some y) : c ∧ x = some y := ww_chk h
theorem pif_T {α : Type} {c : Prop} {x : Option α} (h : c) : pif_ c x = x := by unfold pif_; exact if_pos h
theorem lx_s {L0 L : ly_T} {σ0 σ σ1 : st_T} {cells slots : Nat} (hx : lext L0 σ0 L σ) (hc : bk σ0 σ cells slots) (h : kp_ σ σ1) : lext L0 σ0 L σ1 ∧ bk σ0 σ1 cells slots := by
  have e1 : cu_ σ1 = cu_ σ := h.2 0
  have e2 : su_ σ1 = su_ σ := h.2 1
  refine ⟨hx.trans (lext.rfl' h.1 h.2), ?_⟩
  unfold bk at hc ⊢
  rw [e1, e2]
  exact hc
theorem kp_F {σ : st_T} {r k i : Nat} {v : Int32} : kp_ σ (sF_ σ r k i v) := ⟨rfl, fun _ => rfl⟩
theorem kp_A {σ : st_T} {r i : Nat} {f : Nat → Int32} : kp_ σ (sA_ σ r i f) := ⟨rfl, fun _ => rfl⟩
theorem kp_E {σ : st_T} {r i j : Nat} {v : Int32} : kp_ σ (sE_ σ r i j v) := ⟨rfl, fun _ => rfl⟩
theorem kp_P {σ : st_T} {r k i n : Nat} (h : r ≠ 250) : kp_ σ (sP_ σ r k i n) := ⟨rfl, fun _ => by rw [gP_sP, if_neg (fun z => h z.1.symm)]⟩
theorem kp_M {σ : st_T} {r k i n : Nat} (h : r ≠ 250) : kp_ σ (sM_ σ r k i n) := ⟨rfl, fun _ => by rw [gP_sM, if_neg (fun z => h z.1.symm), if_neg (fun z => h z.1.symm)]⟩
theorem nA_cu {σ : st_T} {r len : Nat} : cu_ (nA_ σ r len) = cu_ σ + 1 ∧ su_ (nA_ σ r len) = su_ σ + len := ⟨rfl, rfl⟩
theorem nO_cu {σ : st_T} {r t N : Nat} : cu_ (nO_ σ r t N) = cu_ σ + 1 ∧ su_ (nO_ σ r t N) = su_ σ + N := ⟨rfl, rfl⟩
theorem bX_cu {σ : st_T} : cu_ (bX_ σ) = cu_ σ + 1 ∧ su_ (bX_ σ) = su_ σ + 6 := ⟨rfl, rfl⟩
theorem nA_lt {σ : st_T} {r len o : Nat} (h : ow_ r = o) : gN_ σ o < gN_ (nA_ σ r len) o := by subst h; rw [gN_nA, if_pos rfl]; exact Nat.lt_succ_self _
theorem nO_lt {σ : st_T} {r t N o : Nat} (h : ow_ r = o) : gN_ σ o < gN_ (nO_ σ r t N) o := by subst h; rw [gN_nO, if_pos rfl]; exact Nat.lt_succ_self _
theorem wv.raw {g : wg_T} {L : ly_T} {σ : st_T} {s : State} {H : Heap} {locs : List Loc} (h : wv g L σ s H locs) : wv (rw_ g) L σ s H locs := ⟨h.1, ⟨h.2.1.1, h.2.1.2.1, h.2.1.2.2.1, fun z => by cases z⟩, h.2.2⟩
theorem wv.ready {g : wg_T} {L : ly_T} {σ : st_T} {s : State} {H : Heap} {locs : List Loc} (h : wv (rw_ g) L σ s H locs) (hr : rdy σ) : wv g L σ s H locs := ⟨h.1, ⟨h.2.1.1, h.2.1.2.1, h.2.1.2.2.1, fun _ => hr⟩, h.2.2⟩
section AROWS
variable {p : Program} {l : Launch} {e : Env} {R : Room} {s : State} {m : MethodId} {args : Array Value} {below : List Frame} {meth : Method} {c : Code} {H : Heap} {locs : List Loc} {cells slots : Nat} {Q : State → Prop}
variable {cc : ByteArray} {pc : Nat} {ls : Array Slot} {rest st0 st1 : List Value} {g : wg_T} {L L0 : ly_T} {σ σ' σ0 σ_ : st_T} {a : Array Value} {mc ms : Nat} {XC : String → State → State → Prop}
theorem ww_stk (h : st1 = st0) (kk : W p l e R s m args below meth c H locs cells slots Q (F0 m pc ls st1)) : W p l e R s m args below meth c H locs cells slots Q (F0 m pc ls st0) := by rw [← h]; exact kk
theorem wa_i {v r_ : Int32} (hexec : p.tables.exec = Jvm.exec) (hb : c.code = cc) (hr : meth.sig.returnType = some .int) (hlocks : meth.locks = false) (hx : lext L0 σ0 L σ) (hcs : bk σ0 σ cells slots) (hW : wv g L σ s H locs) (e1 : r_ = v) (e2 : σ_ = σ) (hdg : decode cc pc = .ok (.ireturn, 1)) :
    W p l e R s m args below meth c H locs cells slots (MQ below (wAi g L0 σ0 r_ σ_) args s (cu_ σ_ - cu_ σ0) (su_ σ_ - su_ σ0) (fun q => gz g ≤ q)) (F0 m pc ls [.int v]) := by
  subst e1 e2
  exact W.widen hcs.2.1 hcs.2.2 (W.iret hexec hb hr (fun t ht hW' => ⟨⟨_, L, rfl, ⟨rfl, hx⟩, hW.end ht⟩, hW.F ht⟩) hW.locs hdg hlocks)
theorem wa_z {v r_ : Int32} (hexec : p.tables.exec = Jvm.exec) (hb : c.code = cc) (hr : meth.sig.returnType = some .boolean) (hlocks : meth.locks = false) (hx : lext L0 σ0 L σ) (hcs : bk σ0 σ cells slots) (hW : wv g L σ s H locs) (hz : bz v) (e1 : r_ = v) (e2 : σ_ = σ) (hdg : decode cc pc = .ok (.ireturn, 1)) :
    W p l e R s m args below meth c H locs cells slots (MQ below (wAi g L0 σ0 r_ σ_) args s (cu_ σ_ - cu_ σ0) (su_ σ_ - su_ σ0) (fun q => gz g ≤ q)) (F0 m pc ls [.int v]) := by
  subst e1 e2
  exact W.widen hcs.2.1 hcs.2.2 (W.zret hexec hb hr (bz_n hz) (fun t ht hW' => ⟨⟨_, L, rfl, ⟨rfl, hx⟩, hW.end ht⟩, hW.F ht⟩) hW.locs hdg hlocks)
theorem wa_v (hexec : p.tables.exec = Jvm.exec) (hb : c.code = cc) (hr : meth.sig.returnType = none) (hlocks : meth.locks = false) (hx : lext L0 σ0 L σ) (hcs : bk σ0 σ cells slots) (hW : wv g L σ s H locs) (e2 : σ_ = σ) (hdg : decode cc pc = .ok (.return_, 1)) :
    W p l e R s m args below meth c H locs cells slots (MQ below (wAv g L0 σ0 σ_) args s (cu_ σ_ - cu_ σ0) (su_ σ_ - su_ σ0) (fun q => gz g ≤ q)) (F0 m pc ls []) := by
  subst e2
  exact W.widen hcs.2.1 hcs.2.2 (W.vret hexec hb hr (fun t ht hW' => ⟨⟨L, rfl, hx, hW.end ht⟩, hW.F ht⟩) hW.locs hdg hlocks)
theorem wa_r {rg v r_ : Nat} {C : String} (hexec : p.tables.exec = Jvm.exec) (hb : c.code = cc) (hr : meth.sig.returnType = some (.object C)) (hlocks : meth.locks = false) (hx : lext L0 σ0 L σ) (hcs : bk σ0 σ cells slots) (hW : wv g L σ s H locs) (e1 : r_ = v) (e2 : σ_ = σ) (hdg : decode cc pc = .ok (.areturn, 1)) :
    W p l e R s m args below meth c H locs cells slots (MQ below (wAr g L0 σ0 rg r_ σ_) args s (cu_ σ_ - cu_ σ0) (su_ σ_ - su_ σ0) (fun q => gz g ≤ q)) (F0 m pc ls [.ref (L rg v)]) := by
  subst e1 e2
  exact W.widen hcs.2.1 hcs.2.2 (W.aret hexec hb hr (Or.inl ⟨_, rfl⟩) (Or.inr ⟨_, rfl⟩) (fun t ht hW' => ⟨⟨L, _, rfl, hx, rfl, hW.end ht⟩, hW.F ht⟩) hW.locs hdg hlocks)
theorem wz_i {v : Int32} {o_ : Nat ⊕ Int32} (hexec : p.tables.exec = Jvm.exec) (hb : c.code = cc) (hr : meth.sig.returnType = some .int) (hlocks : meth.locks = false) (hx : lext L0 σ0 L σ) (hcs : bk σ0 σ cells slots) (hW : wv g L σ s H locs) (e1 : o_ = .inr v) (e2 : σ_ = σ) (hdg : decode cc pc = .ok (.ireturn, 1)) :
    W p l e R s m args below meth c H locs cells slots (vx_MQ below (yXi g L0 σ0 o_ σ_) XC args s (cu_ σ_ - cu_ σ0) (su_ σ_ - su_ σ0) (fun q => gz g ≤ q)) (F0 m pc ls [.int v]) := by
  subst e1 e2
  exact vx_ret (W.widen hcs.2.1 hcs.2.2 (W.iret hexec hb hr (fun t ht hW' => ⟨⟨_, L, rfl, ⟨rfl, hx⟩, hW.end ht⟩, hW.F ht⟩) hW.locs hdg hlocks))
theorem wz_z {v : Int32} {o_ : Nat ⊕ Int32} (hexec : p.tables.exec = Jvm.exec) (hb : c.code = cc) (hr : meth.sig.returnType = some .boolean) (hlocks : meth.locks = false) (hx : lext L0 σ0 L σ) (hcs : bk σ0 σ cells slots) (hW : wv g L σ s H locs) (hz : bz v) (e1 : o_ = .inr v) (e2 : σ_ = σ) (hdg : decode cc pc = .ok (.ireturn, 1)) :
    W p l e R s m args below meth c H locs cells slots (vx_MQ below (yXi g L0 σ0 o_ σ_) XC args s (cu_ σ_ - cu_ σ0) (su_ σ_ - su_ σ0) (fun q => gz g ≤ q)) (F0 m pc ls [.int v]) := by
  subst e1 e2
  exact vx_ret (W.widen hcs.2.1 hcs.2.2 (W.zret hexec hb hr (bz_n hz) (fun t ht hW' => ⟨⟨_, L, rfl, ⟨rfl, hx⟩, hW.end ht⟩, hW.F ht⟩) hW.locs hdg hlocks))
theorem wz_v {o_ : Nat ⊕ Unit} (hexec : p.tables.exec = Jvm.exec) (hb : c.code = cc) (hr : meth.sig.returnType = none) (hlocks : meth.locks = false) (hx : lext L0 σ0 L σ) (hcs : bk σ0 σ cells slots) (hW : wv g L σ s H locs) (e1 : o_ = .inr ()) (e2 : σ_ = σ) (hdg : decode cc pc = .ok (.return_, 1)) :
    W p l e R s m args below meth c H locs cells slots (vx_MQ below (yXv g L0 σ0 o_ σ_) XC args s (cu_ σ_ - cu_ σ0) (su_ σ_ - su_ σ0) (fun q => gz g ≤ q)) (F0 m pc ls []) := by
  subst e1 e2
  exact vx_ret (W.widen hcs.2.1 hcs.2.2 (W.vret hexec hb hr (fun t ht hW' => ⟨⟨L, rfl, ⟨rfl, hx⟩, hW.end ht⟩, hW.F ht⟩) hW.locs hdg hlocks))
theorem wz_r {v rg : Nat} {o_ : Nat ⊕ Nat} {C : String} (hexec : p.tables.exec = Jvm.exec) (hb : c.code = cc) (hr : meth.sig.returnType = some (.object C)) (hlocks : meth.locks = false) (hx : lext L0 σ0 L σ) (hcs : bk σ0 σ cells slots) (hW : wv g L σ s H locs) (e1 : o_ = .inr v) (e2 : σ_ = σ) (hdg : decode cc pc = .ok (.areturn, 1)) :
    W p l e R s m args below meth c H locs cells slots (vx_MQ below (yXr g L0 σ0 rg o_ σ_) XC args s (cu_ σ_ - cu_ σ0) (su_ σ_ - su_ σ0) (fun q => gz g ≤ q)) (F0 m pc ls [.ref (L rg v)]) := by
  subst e1 e2
  exact vx_ret (W.widen hcs.2.1 hcs.2.2 (W.aret hexec hb hr (Or.inl ⟨_, rfl⟩) (Or.inr ⟨_, rfl⟩) (fun t ht hW' => ⟨⟨L, _, rfl, hx, ⟨⟨_, rfl, rfl⟩, hW.end ht⟩⟩, hW.F ht⟩) hW.locs hdg hlocks))
/-! calls of them -/
theorem wa_ci {v : Int32} (hr : va_Run p l e R s m args below meth c H locs cells slots mc ms (F0 m pc ls st0) rest (wAi g L σ v σ' a) (fun q => gz g ≤ q)) (hW : wv g L σ s H locs)
    (kk : ∀ (H1 : Heap) (locs1 : List Loc) (L1 : ly_T), lext L σ L1 σ' → wv g L1 σ' s H1 locs1 → W p l e R s m args below meth c H1 locs1 (cells + mc) (slots + ms) Q (F0 m (pc + 3) ls (.int v :: rest))) : W p l e R s m args below meth c H locs cells slots Q (F0 m pc ls st0) := by
  refine va_calli hr hW.2.2.1 (fun q _ h => h) (fun q h => h) (fun r u t H1 locs1 ht hvm hp hB hz hk hS => ?_)
  rw [hp.1]
  exact kk H1 locs1 u hp.2 (hW.back ht hB hS)
theorem wa_cv (hr : va_Run p l e R s m args below meth c H locs cells slots mc ms (F0 m pc ls st0) rest (wAv g L σ σ' a) (fun q => gz g ≤ q)) (hW : wv g L σ s H locs)
    (kk : ∀ (H1 : Heap) (locs1 : List Loc) (L1 : ly_T), lext L σ L1 σ' → wv g L1 σ' s H1 locs1 → W p l e R s m args below meth c H1 locs1 (cells + mc) (slots + ms) Q (F0 m (pc + 3) ls rest)) : W p l e R s m args below meth c H locs cells slots Q (F0 m pc ls st0) :=
  va_callv hr hW.2.2.1 (fun q _ h => h) (fun q h => h) (fun u _ H1 locs1 ht _ hp hB _ _ hS => kk H1 locs1 u hp (hW.back ht hB hS))
theorem wa_cr {rg v : Nat} (hr : va_Run p l e R s m args below meth c H locs cells slots mc ms (F0 m pc ls st0) rest (wAr g L σ rg v σ' a) (fun q => gz g ≤ q)) (hW : wv g L σ s H locs)
    (kk : ∀ (H1 : Heap) (locs1 : List Loc) (L1 : ly_T), lext L σ L1 σ' → wv g L1 σ' s H1 locs1 → W p l e R s m args below meth c H1 locs1 (cells + mc) (slots + ms) Q (F0 m (pc + 3) ls (.ref (L1 rg v) :: rest))) : W p l e R s m args below meth c H locs cells slots Q (F0 m pc ls st0) := by
  refine va_callr hr hW.2.2.1 (fun q _ h => h) (fun q h => h) (fun u ra t H1 locs1 ht hvm hp hB hz hk hS => ?_)
  obtain ⟨e1, hB⟩ := hB
  rw [e1]
  exact kk H1 locs1 u hp (hW.back ht hB hS)
end AROWS
