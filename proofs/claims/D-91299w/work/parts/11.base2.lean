set_option maxRecDepth 100000
/-! ===== ends and starts of methods over the world ===== -/
abbrev inb (j : Int32) (n : Nat) : Prop := ¬ (j < 0 ∨ n ≤ j.toNatClampNeg)
theorem vin_lit {j : Int32} {n : Nat} (h : decide (¬ (j < 0 ∨ n ≤ j.toNatClampNeg)) = true) : vp_in j n := by
  have k : ¬ (j < 0 ∨ n ≤ j.toNatClampNeg) := of_decide_eq_true h
  exact k
abbrev bz (v : Int32) : Prop := v = 0 ∨ v = 1
theorem bz_n {v : Int32} (h : bz v) : narrow .boolean (.int v) = .int v := by rcases h with rfl | rfl <;> rfl
theorem bz_f {v : Int32} (h : bz v) : fits .boolean (.int v) = true := by rcases h with rfl | rfl <;> rfl
def imin (x y : Int32) : Int32 := if y < x then y else x
def imax (x y : Int32) : Int32 := if x < y then y else x
def iabs (x : Int32) : Int32 := if 0 ≤ x then x else 0 - x
def fu_ : Nat := 1000000000000
def sm_ {α β γ : Type} (o : α ⊕ β) (f : α → γ) (k : β → γ) : γ := match o with
  | .inl a => f a
  | .inr b => k b
theorem ww_sL {α β γ : Type} {a : α} {f : α → γ} {k : β → γ} {y : γ} (h : sm_ (.inl a) f k = y) : f a = y := h
theorem ww_sR {α β γ : Type} {b : β} {f : α → γ} {k : β → γ} {y : γ} (h : sm_ (.inr b) f k = y) : k b = y := h
def bn2_ {α β γ : Type} (x : Option (α × β)) (f : α → β → Option γ) : Option γ := x.bind fun p => f p.1 p.2
theorem ww_bn2 {α β γ : Type} {x : Option (α × β)} {f : α → β → Option γ} {y : γ} (h : bn2_ x f = some y) : ∃ a b, x = some (a, b) ∧ f a b = some y := by
  cases x with
  | none => cases h
  | some q => exact ⟨q.1, q.2, rfl, h⟩
theorem bn2_some {α β γ : Type} (a : α) (b : β) (f : α → β → Option γ) : bn2_ (some (a, b)) f = f a b := rfl
section WENDS
variable {p : Program} {l : Launch} {e : Env} {R : Room} {s : State} {m : MethodId} {args : Array Value} {below : List Frame} {meth : Method} {c : Code} {H : Heap} {locs : List Loc} {cells slots : Nat}
variable {cc : ByteArray} {pc : Nat} {ls : Array Slot} {g : wg_T} {L : ly_T} {σ σ_ : st_T} {mc ms : Nat}
theorem we_i {v r_ : Int32} (hexec : p.tables.exec = Jvm.exec) (hb : c.code = cc) (hr : meth.sig.returnType = some .int) (hlocks : meth.locks = false) (hW : wv g L σ s H locs) (e1 : r_ = v) (e2 : σ_ = σ) (hc : cells ≤ mc) (hs : slots ≤ ms) (hdg : decode cc pc = .ok (.ireturn, 1)) :
    W p l e R s m args below meth c H locs cells slots (MQ below (wQi g L r_ σ_) args s mc ms (fun q => gz g ≤ q)) (F0 m pc ls [.int v]) := by
  subst e1 e2
  exact W.widen hc hs (W.iret hexec hb hr (fun t ht hW' => ⟨⟨_, (), rfl, rfl, hW.end ht⟩, hW.F ht⟩) hW.locs hdg hlocks)
theorem we_z {v r_ : Int32} (hexec : p.tables.exec = Jvm.exec) (hb : c.code = cc) (hr : meth.sig.returnType = some .boolean) (hlocks : meth.locks = false) (hW : wv g L σ s H locs) (hz : bz v) (e1 : r_ = v) (e2 : σ_ = σ) (hc : cells ≤ mc) (hs : slots ≤ ms) (hdg : decode cc pc = .ok (.ireturn, 1)) :
    W p l e R s m args below meth c H locs cells slots (MQ below (wQi g L r_ σ_) args s mc ms (fun q => gz g ≤ q)) (F0 m pc ls [.int v]) := by
  subst e1 e2
  exact W.widen hc hs (W.zret hexec hb hr (bz_n hz) (fun t ht hW' => ⟨⟨_, (), rfl, rfl, hW.end ht⟩, hW.F ht⟩) hW.locs hdg hlocks)
theorem we_v (hexec : p.tables.exec = Jvm.exec) (hb : c.code = cc) (hr : meth.sig.returnType = none) (hlocks : meth.locks = false) (hW : wv g L σ s H locs) (e2 : σ_ = σ) (hc : cells ≤ mc) (hs : slots ≤ ms) (hdg : decode cc pc = .ok (.return_, 1)) :
    W p l e R s m args below meth c H locs cells slots (MQ below (wQv g L σ_) args s mc ms (fun q => gz g ≤ q)) (F0 m pc ls []) := by
  subst e2
  exact W.widen hc hs (W.vret hexec hb hr (fun t ht hW' => ⟨⟨(), rfl, trivial, hW.end ht⟩, hW.F ht⟩) hW.locs hdg hlocks)
theorem we_r {v r_ : Nat} {C : String} (hexec : p.tables.exec = Jvm.exec) (hb : c.code = cc) (hr : meth.sig.returnType = some (.object C)) (hlocks : meth.locks = false) (hW : wv g L σ s H locs) (e1 : r_ = v) (e2 : σ_ = σ) (hc : cells ≤ mc) (hs : slots ≤ ms) (hdg : decode cc pc = .ok (.areturn, 1)) :
    W p l e R s m args below meth c H locs cells slots (MQ below (wQr g L r_ σ_) args s mc ms (fun q => gz g ≤ q)) (F0 m pc ls [.ref v]) := by
  subst e1 e2
  exact W.widen hc hs (W.aret hexec hb hr (Or.inl ⟨_, rfl⟩) (Or.inr ⟨_, rfl⟩) (fun t ht hW' => ⟨⟨(), _, rfl, trivial, rfl, hW.end ht⟩, hW.F ht⟩) hW.locs hdg hlocks)
end WENDS
section WSTART
variable {l : Launch} {y : MethodName} {cc : ByteArray} {maxL : Nat} {ret : Option FieldType} {g : wg_T} {L : ly_T} {σ σ_ : st_T} {fr lo mc ms : Nat} {av : List Value}
/-- what a method's body finds -/
def wbody (l : Launch) (y : MethodName) (cc : ByteArray) (maxL : Nat) (ret : Option FieldType) (g : wg_T) (L : ly_T) (σ : st_T) (fr lo mc ms : Nat) (av : List Value) (Qc : Array Value → State → Outcome → State → Prop) : Prop :=
  ∀ (p : Program) (e : Env) (s : State) (m : MethodId) (args : Array Value) (below : List Frame) (meth : Method) (c : Code) (ls : Array Slot), p.tables.exec = Jvm.exec → c.code = cc → meth.sig.returnType = ret → c.maxLocals = maxL → meth.locks = false → (∀ w ∈ lw_all, w.before args s = true) → s.vm.findClass y.cls = some m.cls → meth.name = y.name → wv g L σ s s.heap [] → lv_has ls maxL (lv_args 0 av) →
    W p l e (wrm fr lo mc ms) s m args below meth c s.heap [] 0 0 (MQ below Qc args s mc ms (fun q => gz g ≤ q)) (F0 m 0 ls [])
theorem wbody.met {Qc : Array Value → State → Outcome → State → Prop} (hy : plainName y.cls = true) (hsz : (lg_sl av).length ≤ maxL) (h : wbody l y cc maxL ret g L σ fr lo mc ms av Qc) : Met l y (ws_ y cc maxL ret) (wrm fr lo mc ms) (va_Pc av (wd g L σ)) Qc mc ms (fun q => gz g ≤ q) := by
  refine Met.ofW (cc := cc) (maxL := maxL) (ret := ret) hy rfl ?_
  intro p e s m args below meth c s₁ B hml hv
  obtain ⟨hav, hv⟩ := hv
  have hl := lv_entry av hsz
  have hts : ∀ w ∈ lw_all, w.before args s = true := fun w h => atoms_spec (ws := ws_ y cc maxL ret) B.pre w (List.mem_cons_of_mem _ h)
  have k := h p e s m args below meth c _ B.exec B.bytes B.returns hml B.notSynchronized hts (findClass_of_methodNamed B.named) (name_of_methodNamed B.named B.method).1 hv.start hl
  subst hav
  rw [lg_entry_eq]
  exact k
end WSTART
