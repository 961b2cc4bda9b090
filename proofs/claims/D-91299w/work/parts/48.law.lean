set_option maxRecDepth 100000
def R_law : String := "ElephantEdgeLaw"
def lw_P (b : Addr) (xs : List Int32) (args : Array Value) (s : State) : Prop := args = #[.ref b] ∧ s.IntsAt b xs ∧ xs.length ≤ 384 ∧ (Jvm.Cond.and given_1 narrow_1).before args s = true
def lw_Q (_ : Array Value) (s : State) (o : Outcome) (t : State) : Prop := o = .returned (some (.int 1)) ∧ Framed s o t [] 1200384 5487786
def lw_Z (below : List Frame) (a : Array Value) (s : State) : State → Prop := fun t => ∃ o, t.status = .running ∧ Ended t below o ∧ lw_Q a s o t
/-- the law's own end, with 1 on the stack, nothing written that was there before, its room as the claim has it -/
theorem lw_ret {p : Program} {l : Launch} {e : Env} {s : State} {m : MethodId} {below : List Frame} {meth : Method} {c : Code} {b : Nat} (hx : p.tables.exec = Jvm.exec) (hb : c.code = code) (hr : meth.sig.returnType = ret) (hlocks : meth.locks = false) {pc : Nat} {H : Heap} {ls : Array Slot} (hdg : decode code pc = .ok (.ireturn, 1)) : W p l e room_1 s m #[Value.ref b] below meth c H [] 1200384 5487786 (lw_Z below #[Value.ref b] s) (F0 m pc ls [.int 1]) := by
  intro T hT X
  obtain ⟨fs, hret, hrun, hended, hW, hframe⟩ := X.leave (v := some (.int 1)) (hlocks := hlocks) (fun h => by rw [hr] at h; cases h)
  have hmeth' : T.vm.method? m = some meth := X.method'
  refine ⟨T.setFrames fs, ?_, .returned (some (.int 1)), hrun, hended, rfl, ⟨_, rfl⟩, hW, hframe⟩
  jvm_step X.here [X.here.top, hx, hb, hdg, hmeth', hr, ret, narrow_b1]
  (try refine ⟨rfl, ?_⟩); (try refine ⟨rfl, ?_⟩)
  first | (intro acts; rw [hret _ acts rfl rfl rfl]) | rw [hret _ _ rfl rfl rfl]
  exact Steps.refl _
/-- what holds at the law's entry: the machine, the code, the tables' words (any of lw_tbl by 'hts w (by decide +kernel)'), the script of L ints xs at the cell b, what the Statement gives of the start (any of its parts by flat_of_before) -/
def lw_At (p : Program) (s : State) (m : MethodId) (meth : Method) (c : Code) (b L : Nat) (xs : Nat → Int32) : Prop :=
  p.tables.exec = Jvm.exec ∧ c.code = code ∧ meth.sig.returnType = ret ∧ c.maxLocals = 7 ∧ s.vm.findClass R_law = some m.cls ∧ (∀ w ∈ lw_tbl, w.before #[Value.ref b] s = true) ∧ va_X b L xs s s.heap ∧ b < s.heap.size ∧ meth.locks = false ∧ (Jvm.Cond.and given_1 narrow_1).before #[Value.ref b] s = true
/-! ===== the law's own rows ===== -/
theorem le2_ {a b c d e f : Nat} (h : a ≤ b ∧ c ≤ d) (k : b ≤ e ∧ d ≤ f) : a ≤ e ∧ c ≤ f := ⟨Nat.le_trans h.1 k.1, Nat.le_trans h.2 k.2⟩
theorem wl_ret {p : Program} {l : Launch} {e : Env} {s : State} {m : MethodId} {below : List Frame} {meth : Method} {c : Code} {b pc cells slots : Nat} {H : Heap} {locs : List Loc} {ls : Array Slot} {g : wg_T} {L : ly_T} {σ : st_T} {v r_ : Int32} (hx : p.tables.exec = Jvm.exec) (hb : c.code = code) (hr : meth.sig.returnType = ret) (hlocks : meth.locks = false) (hW : wv g L σ s H locs) (hsz : s.heap.size ≤ gz g) (hrm : cells ≤ 1200384 ∧ slots ≤ 5487786) (e1 : r_ = v) (hr1 : r_ = 1) (hdg : decode code pc = .ok (.ireturn, 1)) :
    W p l e room_1 s m #[Value.ref b] below meth c H locs cells slots (lw_Z below #[Value.ref b] s) (F0 m pc ls [.int v]) := by
  rw [← e1, hr1]
  exact va_forget (fun q hq => Nat.le_trans hsz (hW.2.2.1.2.2 q hq)) (W.widen hrm.1 hrm.2 (lw_ret hx hb hr hlocks hdg))
noncomputable def m_L_law_L3445 (N : Nat) (xs : Nat → Int32) (k23 : st_T → Int32 → Option (Int32 × st_T)) (σ : st_T) (x4 : Int32) : Option (Int32 × st_T) := k23 σ (x4 + (6 : Int32))
noncomputable def m_L_law_L3420 (N : Nat) (xs : Nat → Int32) (k3445 : st_T → Int32 → Option (Int32 × st_T)) (σ : st_T) (x4 : Int32) : Option (Int32 × st_T) := if inb (x4 + (1 : Int32)) N then (m_X1_count σ (xs (x4 + (1 : Int32)).toNatClampNeg)).bind fun v4 => bn2_ (m_X10_count σ (xs (x4 + (1 : Int32)).toNatClampNeg)) fun v7 σ8 => pif_ (kp_ σ σ8) (if v4 = v7 then k3445 σ8 x4 else some ((0 : Int32), σ8)) else none
noncomputable def m_L_law_L3417 (N : Nat) (xs : Nat → Int32) (k3445 : st_T → Int32 → Option (Int32 × st_T)) (σ : st_T) (x4 : Int32) : Option (Int32 × st_T) := k3445 σ x4
noncomputable def m_L_law_L3340 (N : Nat) (xs : Nat → Int32) (k3445 : st_T → Int32 → Option (Int32 × st_T)) (σ : st_T) (x4 : Int32) : Option (Int32 × st_T) := if inb (x4 + (1 : Int32)) N then if inb (x4 + (2 : Int32)) N then if inb (x4 + (3 : Int32)) N then bn2_ (m_X0_gap σ (xs (x4 + (1 : Int32)).toNatClampNeg) (xs (x4 + (2 : Int32)).toNatClampNeg) (xs (x4 + (3 : Int32)).toNatClampNeg)) fun v15 σ16 => if 0 < gN_ σ 100 then if cu_ σ ≤ cu_ σ16 ∧ su_ σ ≤ su_ σ16 then ck2_ σ16 (bn2_ (m_X10_gap σ16 (xs (x4 + (1 : Int32)).toNatClampNeg) (xs (x4 + (2 : Int32)).toNatClampNeg) (xs (x4 + (3 : Int32)).toNatClampNeg)) fun v25 σ26 => pif_ (kp_ σ16 σ26) ((m_X10_thrown σ26).bind fun v30 => if v30 = v15 then if v15 = 0 then if (lg_cmp (gO_ σ26) ((v25).toInt64)) = 0 then (m_L_law_L3417 N xs k3445) σ26 x4 else some ((0 : Int32), σ26) else (m_L_law_L3417 N xs k3445) σ26 x4 else some ((0 : Int32), σ26))) else none else none else none else none else none
noncomputable def m_L_law_L3337 (N : Nat) (xs : Nat → Int32) (k3445 : st_T → Int32 → Option (Int32 × st_T)) (σ : st_T) (x4 : Int32) : Option (Int32 × st_T) := k3445 σ x4
noncomputable def m_L_law_L3272 (N : Nat) (xs : Nat → Int32) (k3445 : st_T → Int32 → Option (Int32 × st_T)) (σ : st_T) (x4 : Int32) : Option (Int32 × st_T) := if inb (x4 + (1 : Int32)) N then if inb (x4 + (2 : Int32)) N then bn2_ (m_X0_rents σ (xs (x4 + (1 : Int32)).toNatClampNeg) (xs (x4 + (2 : Int32)).toNatClampNeg)) fun v38 σ39 => if 0 < gN_ σ 100 then if cu_ σ ≤ cu_ σ39 ∧ su_ σ ≤ su_ σ39 then ck2_ σ39 (bn2_ (m_X10_rents σ39 (xs (x4 + (1 : Int32)).toNatClampNeg) (xs (x4 + (2 : Int32)).toNatClampNeg)) fun v48 σ49 => pif_ (kp_ σ39 σ49) ((m_X10_thrown σ49).bind fun v53 => if v53 = v38 then if v38 = 0 then if (lg_cmp (gO_ σ49) ((v48).toInt64)) = 0 then (m_L_law_L3337 N xs k3445) σ49 x4 else some ((0 : Int32), σ49) else (m_L_law_L3337 N xs k3445) σ49 x4 else some ((0 : Int32), σ49))) else none else none else none else none
noncomputable def m_L_law_L3269 (N : Nat) (xs : Nat → Int32) (k3445 : st_T → Int32 → Option (Int32 × st_T)) (σ : st_T) (x4 : Int32) : Option (Int32 × st_T) := k3445 σ x4
noncomputable def m_L_law_L3204 (N : Nat) (xs : Nat → Int32) (k3445 : st_T → Int32 → Option (Int32 × st_T)) (σ : st_T) (x4 : Int32) : Option (Int32 × st_T) := if inb (x4 + (1 : Int32)) N then if inb (x4 + (2 : Int32)) N then bn2_ (m_X0_rent σ (xs (x4 + (1 : Int32)).toNatClampNeg) (xs (x4 + (2 : Int32)).toNatClampNeg)) fun v61 σ62 => if 0 < gN_ σ 100 then if cu_ σ ≤ cu_ σ62 ∧ su_ σ ≤ su_ σ62 then ck2_ σ62 (bn2_ (m_X10_rent σ62 (xs (x4 + (1 : Int32)).toNatClampNeg) (xs (x4 + (2 : Int32)).toNatClampNeg)) fun v71 σ72 => pif_ (kp_ σ62 σ72) ((m_X10_thrown σ72).bind fun v76 => if v76 = v61 then if v61 = 0 then if (lg_cmp (gO_ σ72) ((v71).toInt64)) = 0 then (m_L_law_L3269 N xs k3445) σ72 x4 else some ((0 : Int32), σ72) else (m_L_law_L3269 N xs k3445) σ72 x4 else some ((0 : Int32), σ72))) else none else none else none else none
noncomputable def m_L_law_L3201 (N : Nat) (xs : Nat → Int32) (k3445 : st_T → Int32 → Option (Int32 × st_T)) (σ : st_T) (x4 : Int32) : Option (Int32 × st_T) := k3445 σ x4
noncomputable def m_L_law_L3195 (N : Nat) (xs : Nat → Int32) (k3201 : st_T → Int32 → Option (Int32 × st_T)) (σ : st_T) (x4 : Int32) (t0 : Int64) (t1 : Int64) : Option (Int32 × st_T) := if (lg_cmp t0 t1) = 0 then k3201 σ x4 else some ((0 : Int32), σ)
noncomputable def m_L_law_L3161 (N : Nat) (xs : Nat → Int32) (k3445 : st_T → Int32 → Option (Int32 × st_T)) (σ : st_T) (x4 : Int32) (x5 : Int32) (t1 : Int32) (t2 : Int32) : Option (Int32 × st_T) := bn2_ (m_X10_lease σ t1 t2) fun v83 σ84 => pif_ (kp_ σ σ84) ((m_X10_thrown σ84).bind fun v87 => if v87 = x5 then if x5 = 0 then if 0 < gN_ σ84 100 then if v83 = 0 then (m_L_law_L3195 N xs (m_L_law_L3201 N xs k3445)) σ84 x4 (gO_ σ84) (0 : Int64) else (m_L_law_L3195 N xs (m_L_law_L3201 N xs k3445)) σ84 x4 (gO_ σ84) (1 : Int64) else none else (m_L_law_L3201 N xs k3445) σ84 x4 else some ((0 : Int32), σ84))
noncomputable def m_L_law_L3134 (N : Nat) (xs : Nat → Int32) (k3445 : st_T → Int32 → Option (Int32 × st_T)) (σ : st_T) (x4 : Int32) (t1 : Int32) (t2 : Int32) : Option (Int32 × st_T) := bn2_ (m_X0_lease σ t1 t2) fun v94 σ95 => if 0 < gN_ σ 100 then if cu_ σ ≤ cu_ σ95 ∧ su_ σ ≤ su_ σ95 then ck2_ σ95 (if inb (x4 + (1 : Int32)) N then if inb (x4 + (2 : Int32)) N then if (xs (x4 + (2 : Int32)).toNatClampNeg) = 0 then (m_L_law_L3161 N xs k3445) σ95 x4 v94 (xs (x4 + (1 : Int32)).toNatClampNeg) (0 : Int32) else (m_L_law_L3161 N xs k3445) σ95 x4 v94 (xs (x4 + (1 : Int32)).toNatClampNeg) (1 : Int32) else none else none) else none else none
noncomputable def m_L_law_L3113 (N : Nat) (xs : Nat → Int32) (k3445 : st_T → Int32 → Option (Int32 × st_T)) (σ : st_T) (x4 : Int32) : Option (Int32 × st_T) := if inb (x4 + (1 : Int32)) N then if inb (x4 + (2 : Int32)) N then if (xs (x4 + (2 : Int32)).toNatClampNeg) = 0 then (m_L_law_L3134 N xs k3445) σ x4 (xs (x4 + (1 : Int32)).toNatClampNeg) (0 : Int32) else (m_L_law_L3134 N xs k3445) σ x4 (xs (x4 + (1 : Int32)).toNatClampNeg) (1 : Int32) else none else none
noncomputable def m_L_law_L3110 (N : Nat) (xs : Nat → Int32) (k3445 : st_T → Int32 → Option (Int32 × st_T)) (σ : st_T) (x4 : Int32) : Option (Int32 × st_T) := k3445 σ x4
noncomputable def m_L_law_L3033 (N : Nat) (xs : Nat → Int32) (k3445 : st_T → Int32 → Option (Int32 × st_T)) (σ : st_T) (x4 : Int32) : Option (Int32 × st_T) := if inb (x4 + (1 : Int32)) N then if inb (x4 + (2 : Int32)) N then if inb (x4 + (3 : Int32)) N then bn2_ (m_X0_dusk σ (xs (x4 + (1 : Int32)).toNatClampNeg) (xs (x4 + (2 : Int32)).toNatClampNeg) (xs (x4 + (3 : Int32)).toNatClampNeg)) fun v113 σ114 => if 0 < gN_ σ 100 then if cu_ σ ≤ cu_ σ114 ∧ su_ σ ≤ su_ σ114 then ck2_ σ114 (bn2_ (m_X10_dusk σ114 (xs (x4 + (1 : Int32)).toNatClampNeg) (xs (x4 + (2 : Int32)).toNatClampNeg) (xs (x4 + (3 : Int32)).toNatClampNeg)) fun v123 σ124 => pif_ (kp_ σ114 σ124) ((m_X10_thrown σ124).bind fun v128 => if v128 = v113 then if v113 = 0 then if (lg_cmp (gO_ σ124) ((v123).toInt64)) = 0 then (m_L_law_L3110 N xs k3445) σ124 x4 else some ((0 : Int32), σ124) else (m_L_law_L3110 N xs k3445) σ124 x4 else some ((0 : Int32), σ124))) else none else none else none else none else none
noncomputable def m_L_law_L3030 (N : Nat) (xs : Nat → Int32) (k3445 : st_T → Int32 → Option (Int32 × st_T)) (σ : st_T) (x4 : Int32) : Option (Int32 × st_T) := k3445 σ x4
noncomputable def m_L_law_L2965 (N : Nat) (xs : Nat → Int32) (k3445 : st_T → Int32 → Option (Int32 × st_T)) (σ : st_T) (x4 : Int32) : Option (Int32 × st_T) := if inb (x4 + (1 : Int32)) N then if inb (x4 + (2 : Int32)) N then bn2_ (m_X0_called σ (xs (x4 + (1 : Int32)).toNatClampNeg) (xs (x4 + (2 : Int32)).toNatClampNeg)) fun v136 σ137 => if 0 < gN_ σ 100 then if cu_ σ ≤ cu_ σ137 ∧ su_ σ ≤ su_ σ137 then ck2_ σ137 (bn2_ (m_X10_called σ137 (xs (x4 + (1 : Int32)).toNatClampNeg) (xs (x4 + (2 : Int32)).toNatClampNeg)) fun v146 σ147 => pif_ (kp_ σ137 σ147) ((m_X10_thrown σ147).bind fun v151 => if v151 = v136 then if v136 = 0 then if (lg_cmp (gO_ σ147) ((v146).toInt64)) = 0 then (m_L_law_L3030 N xs k3445) σ147 x4 else some ((0 : Int32), σ147) else (m_L_law_L3030 N xs k3445) σ147 x4 else some ((0 : Int32), σ147))) else none else none else none else none
noncomputable def m_L_law_L2962 (N : Nat) (xs : Nat → Int32) (k3445 : st_T → Int32 → Option (Int32 × st_T)) (σ : st_T) (x4 : Int32) : Option (Int32 × st_T) := k3445 σ x4
noncomputable def m_L_law_L2897 (N : Nat) (xs : Nat → Int32) (k3445 : st_T → Int32 → Option (Int32 × st_T)) (σ : st_T) (x4 : Int32) : Option (Int32 × st_T) := if inb (x4 + (1 : Int32)) N then if inb (x4 + (2 : Int32)) N then bn2_ (m_X0_causes σ (xs (x4 + (1 : Int32)).toNatClampNeg) (xs (x4 + (2 : Int32)).toNatClampNeg)) fun v159 σ160 => if 0 < gN_ σ 100 then if cu_ σ ≤ cu_ σ160 ∧ su_ σ ≤ su_ σ160 then ck2_ σ160 (bn2_ (m_X10_causes σ160 (xs (x4 + (1 : Int32)).toNatClampNeg) (xs (x4 + (2 : Int32)).toNatClampNeg)) fun v169 σ170 => pif_ (kp_ σ160 σ170) ((m_X10_thrown σ170).bind fun v174 => if v174 = v159 then if v159 = 0 then if (lg_cmp (gO_ σ170) ((v169).toInt64)) = 0 then (m_L_law_L2962 N xs k3445) σ170 x4 else some ((0 : Int32), σ170) else (m_L_law_L2962 N xs k3445) σ170 x4 else some ((0 : Int32), σ170))) else none else none else none else none
noncomputable def m_L_law_L2894 (N : Nat) (xs : Nat → Int32) (k3445 : st_T → Int32 → Option (Int32 × st_T)) (σ : st_T) (x4 : Int32) : Option (Int32 × st_T) := k3445 σ x4
noncomputable def m_L_law_L2841 (N : Nat) (xs : Nat → Int32) (k3445 : st_T → Int32 → Option (Int32 × st_T)) (σ : st_T) (x4 : Int32) : Option (Int32 × st_T) := if inb (x4 + (1 : Int32)) N then bn2_ (m_X0_cause σ (xs (x4 + (1 : Int32)).toNatClampNeg)) fun v181 σ182 => if 0 < gN_ σ 100 then if cu_ σ ≤ cu_ σ182 ∧ su_ σ ≤ su_ σ182 then ck2_ σ182 (bn2_ (m_X10_cause σ182 (xs (x4 + (1 : Int32)).toNatClampNeg)) fun v191 σ192 => pif_ (kp_ σ182 σ192) ((m_X10_thrown σ192).bind fun v196 => if v196 = v181 then if v181 = 0 then if (lg_cmp (gO_ σ192) ((v191).toInt64)) = 0 then (m_L_law_L2894 N xs k3445) σ192 x4 else some ((0 : Int32), σ192) else (m_L_law_L2894 N xs k3445) σ192 x4 else some ((0 : Int32), σ192))) else none else none else none
noncomputable def m_L_law_L2838 (N : Nat) (xs : Nat → Int32) (k3445 : st_T → Int32 → Option (Int32 × st_T)) (σ : st_T) (x4 : Int32) : Option (Int32 × st_T) := k3445 σ x4
noncomputable def m_L_law_L2773 (N : Nat) (xs : Nat → Int32) (k3445 : st_T → Int32 → Option (Int32 × st_T)) (σ : st_T) (x4 : Int32) : Option (Int32 × st_T) := if inb (x4 + (1 : Int32)) N then if inb (x4 + (2 : Int32)) N then bn2_ (m_X0_trip σ (xs (x4 + (1 : Int32)).toNatClampNeg) (xs (x4 + (2 : Int32)).toNatClampNeg)) fun v204 σ205 => if 0 < gN_ σ 100 then if cu_ σ ≤ cu_ σ205 ∧ su_ σ ≤ su_ σ205 then ck2_ σ205 (bn2_ (m_X10_trip σ205 (xs (x4 + (1 : Int32)).toNatClampNeg) (xs (x4 + (2 : Int32)).toNatClampNeg)) fun v214 σ215 => pif_ (kp_ σ205 σ215) ((m_X10_thrown σ215).bind fun v219 => if v219 = v204 then if v204 = 0 then if (lg_cmp (gO_ σ215) ((v214).toInt64)) = 0 then (m_L_law_L2838 N xs k3445) σ215 x4 else some ((0 : Int32), σ215) else (m_L_law_L2838 N xs k3445) σ215 x4 else some ((0 : Int32), σ215))) else none else none else none else none
noncomputable def m_L_law_L2770 (N : Nat) (xs : Nat → Int32) (k3445 : st_T → Int32 → Option (Int32 × st_T)) (σ : st_T) (x4 : Int32) : Option (Int32 × st_T) := k3445 σ x4
noncomputable def m_L_law_L2705 (N : Nat) (xs : Nat → Int32) (k3445 : st_T → Int32 → Option (Int32 × st_T)) (σ : st_T) (x4 : Int32) : Option (Int32 × st_T) := if inb (x4 + (1 : Int32)) N then if inb (x4 + (2 : Int32)) N then bn2_ (m_X0_wind σ (xs (x4 + (1 : Int32)).toNatClampNeg) (xs (x4 + (2 : Int32)).toNatClampNeg)) fun v227 σ228 => if 0 < gN_ σ 100 then if cu_ σ ≤ cu_ σ228 ∧ su_ σ ≤ su_ σ228 then ck2_ σ228 (bn2_ (m_X10_wind σ228 (xs (x4 + (1 : Int32)).toNatClampNeg) (xs (x4 + (2 : Int32)).toNatClampNeg)) fun v237 σ238 => pif_ (kp_ σ228 σ238) ((m_X10_thrown σ238).bind fun v242 => if v242 = v227 then if v227 = 0 then if (lg_cmp (gO_ σ238) ((v237).toInt64)) = 0 then (m_L_law_L2770 N xs k3445) σ238 x4 else some ((0 : Int32), σ238) else (m_L_law_L2770 N xs k3445) σ238 x4 else some ((0 : Int32), σ238))) else none else none else none else none
noncomputable def m_L_law_L2702 (N : Nat) (xs : Nat → Int32) (k3445 : st_T → Int32 → Option (Int32 × st_T)) (σ : st_T) (x4 : Int32) : Option (Int32 × st_T) := k3445 σ x4
noncomputable def m_L_law_L2625 (N : Nat) (xs : Nat → Int32) (k3445 : st_T → Int32 → Option (Int32 × st_T)) (σ : st_T) (x4 : Int32) : Option (Int32 × st_T) := if inb (x4 + (1 : Int32)) N then if inb (x4 + (2 : Int32)) N then if inb (x4 + (3 : Int32)) N then bn2_ (m_X0_wire σ (xs (x4 + (1 : Int32)).toNatClampNeg) (xs (x4 + (2 : Int32)).toNatClampNeg) (xs (x4 + (3 : Int32)).toNatClampNeg)) fun v251 σ252 => if 0 < gN_ σ 100 then if cu_ σ ≤ cu_ σ252 ∧ su_ σ ≤ su_ σ252 then ck2_ σ252 (bn2_ (m_X10_wire σ252 (xs (x4 + (1 : Int32)).toNatClampNeg) (xs (x4 + (2 : Int32)).toNatClampNeg) (xs (x4 + (3 : Int32)).toNatClampNeg)) fun v261 σ262 => pif_ (kp_ σ252 σ262) ((m_X10_thrown σ262).bind fun v266 => if v266 = v251 then if v251 = 0 then if (lg_cmp (gO_ σ262) ((v261).toInt64)) = 0 then (m_L_law_L2702 N xs k3445) σ262 x4 else some ((0 : Int32), σ262) else (m_L_law_L2702 N xs k3445) σ262 x4 else some ((0 : Int32), σ262))) else none else none else none else none else none
noncomputable def m_L_law_L2622 (N : Nat) (xs : Nat → Int32) (k3445 : st_T → Int32 → Option (Int32 × st_T)) (σ : st_T) (x4 : Int32) : Option (Int32 × st_T) := k3445 σ x4
noncomputable def m_L_law_L2557 (N : Nat) (xs : Nat → Int32) (k3445 : st_T → Int32 → Option (Int32 × st_T)) (σ : st_T) (x4 : Int32) : Option (Int32 × st_T) := if inb (x4 + (1 : Int32)) N then if inb (x4 + (2 : Int32)) N then bn2_ (m_X0_spots σ (xs (x4 + (1 : Int32)).toNatClampNeg) (xs (x4 + (2 : Int32)).toNatClampNeg)) fun v274 σ275 => if 0 < gN_ σ 100 then if cu_ σ ≤ cu_ σ275 ∧ su_ σ ≤ su_ σ275 then ck2_ σ275 (bn2_ (m_X10_spots σ275 (xs (x4 + (1 : Int32)).toNatClampNeg) (xs (x4 + (2 : Int32)).toNatClampNeg)) fun v284 σ285 => pif_ (kp_ σ275 σ285) ((m_X10_thrown σ285).bind fun v289 => if v289 = v274 then if v274 = 0 then if (lg_cmp (gO_ σ285) ((v284).toInt64)) = 0 then (m_L_law_L2622 N xs k3445) σ285 x4 else some ((0 : Int32), σ285) else (m_L_law_L2622 N xs k3445) σ285 x4 else some ((0 : Int32), σ285))) else none else none else none else none
noncomputable def m_L_law_L2554 (N : Nat) (xs : Nat → Int32) (k3445 : st_T → Int32 → Option (Int32 × st_T)) (σ : st_T) (x4 : Int32) : Option (Int32 × st_T) := k3445 σ x4
noncomputable def m_L_law_L2548 (N : Nat) (xs : Nat → Int32) (k2554 : st_T → Int32 → Option (Int32 × st_T)) (σ : st_T) (x4 : Int32) (t0 : Int64) (t1 : Int64) : Option (Int32 × st_T) := if (lg_cmp t0 t1) = 0 then k2554 σ x4 else some ((0 : Int32), σ)
noncomputable def m_L_law_L2470 (N : Nat) (xs : Nat → Int32) (k3445 : st_T → Int32 → Option (Int32 × st_T)) (σ : st_T) (x4 : Int32) : Option (Int32 × st_T) := if inb (x4 + (1 : Int32)) N then if inb (x4 + (2 : Int32)) N then if inb (x4 + (3 : Int32)) N then bn2_ (m_X0_mayBe σ (xs (x4 + (1 : Int32)).toNatClampNeg) (xs (x4 + (2 : Int32)).toNatClampNeg) (xs (x4 + (3 : Int32)).toNatClampNeg)) fun v299 σ300 => if 0 < gN_ σ 100 then if cu_ σ ≤ cu_ σ300 ∧ su_ σ ≤ su_ σ300 then ck2_ σ300 (bn2_ (m_X10_mayBe σ300 (xs (x4 + (1 : Int32)).toNatClampNeg) (xs (x4 + (2 : Int32)).toNatClampNeg) (xs (x4 + (3 : Int32)).toNatClampNeg)) fun v309 σ310 => pif_ (kp_ σ300 σ310) ((m_X10_thrown σ310).bind fun v314 => if v314 = v299 then if v299 = 0 then if v309 = 0 then (m_L_law_L2548 N xs (m_L_law_L2554 N xs k3445)) σ310 x4 (gO_ σ310) (0 : Int64) else (m_L_law_L2548 N xs (m_L_law_L2554 N xs k3445)) σ310 x4 (gO_ σ310) (1 : Int64) else (m_L_law_L2554 N xs k3445) σ310 x4 else some ((0 : Int32), σ310))) else none else none else none else none else none
noncomputable def m_L_law_L2467 (N : Nat) (xs : Nat → Int32) (k3445 : st_T → Int32 → Option (Int32 × st_T)) (σ : st_T) (x4 : Int32) : Option (Int32 × st_T) := k3445 σ x4
noncomputable def m_L_law_L2390 (N : Nat) (xs : Nat → Int32) (k3445 : st_T → Int32 → Option (Int32 × st_T)) (σ : st_T) (x4 : Int32) : Option (Int32 × st_T) := if inb (x4 + (1 : Int32)) N then if inb (x4 + (2 : Int32)) N then if inb (x4 + (3 : Int32)) N then bn2_ (m_X0_fix σ (xs (x4 + (1 : Int32)).toNatClampNeg) (xs (x4 + (2 : Int32)).toNatClampNeg) (xs (x4 + (3 : Int32)).toNatClampNeg)) fun v323 σ324 => if 0 < gN_ σ 100 then if cu_ σ ≤ cu_ σ324 ∧ su_ σ ≤ su_ σ324 then ck2_ σ324 (bn2_ (m_X10_fix σ324 (xs (x4 + (1 : Int32)).toNatClampNeg) (xs (x4 + (2 : Int32)).toNatClampNeg) (xs (x4 + (3 : Int32)).toNatClampNeg)) fun v333 σ334 => pif_ (kp_ σ324 σ334) ((m_X10_thrown σ334).bind fun v338 => if v338 = v323 then if v323 = 0 then if (lg_cmp (gO_ σ334) ((v333).toInt64)) = 0 then (m_L_law_L2467 N xs k3445) σ334 x4 else some ((0 : Int32), σ334) else (m_L_law_L2467 N xs k3445) σ334 x4 else some ((0 : Int32), σ334))) else none else none else none else none else none
noncomputable def m_L_law_L2387 (N : Nat) (xs : Nat → Int32) (k3445 : st_T → Int32 → Option (Int32 × st_T)) (σ : st_T) (x4 : Int32) : Option (Int32 × st_T) := k3445 σ x4
noncomputable def m_L_law_L2322 (N : Nat) (xs : Nat → Int32) (k3445 : st_T → Int32 → Option (Int32 × st_T)) (σ : st_T) (x4 : Int32) : Option (Int32 × st_T) := if inb (x4 + (1 : Int32)) N then if inb (x4 + (2 : Int32)) N then bn2_ (m_X0_claim σ (xs (x4 + (1 : Int32)).toNatClampNeg) (xs (x4 + (2 : Int32)).toNatClampNeg)) fun v346 σ347 => if 0 < gN_ σ 100 then if cu_ σ ≤ cu_ σ347 ∧ su_ σ ≤ su_ σ347 then ck2_ σ347 (bn2_ (m_X10_claim σ347 (xs (x4 + (1 : Int32)).toNatClampNeg) (xs (x4 + (2 : Int32)).toNatClampNeg)) fun v356 σ357 => pif_ (kp_ σ347 σ357) ((m_X10_thrown σ357).bind fun v361 => if v361 = v346 then if v346 = 0 then if (lg_cmp (gO_ σ357) ((v356).toInt64)) = 0 then (m_L_law_L2387 N xs k3445) σ357 x4 else some ((0 : Int32), σ357) else (m_L_law_L2387 N xs k3445) σ357 x4 else some ((0 : Int32), σ357))) else none else none else none else none
noncomputable def m_L_law_L2319 (N : Nat) (xs : Nat → Int32) (k3445 : st_T → Int32 → Option (Int32 × st_T)) (σ : st_T) (x4 : Int32) : Option (Int32 × st_T) := k3445 σ x4
noncomputable def m_L_law_L2230 (N : Nat) (xs : Nat → Int32) (k3445 : st_T → Int32 → Option (Int32 × st_T)) (σ : st_T) (x4 : Int32) : Option (Int32 × st_T) := if inb (x4 + (1 : Int32)) N then if inb (x4 + (2 : Int32)) N then if inb (x4 + (3 : Int32)) N then if inb (x4 + (4 : Int32)) N then bn2_ (m_X0_judge σ (xs (x4 + (1 : Int32)).toNatClampNeg) (xs (x4 + (2 : Int32)).toNatClampNeg) (xs (x4 + (3 : Int32)).toNatClampNeg) (xs (x4 + (4 : Int32)).toNatClampNeg)) fun v371 σ372 => if 0 < gN_ σ 100 then if cu_ σ ≤ cu_ σ372 ∧ su_ σ ≤ su_ σ372 then ck2_ σ372 (bn2_ (m_X10_judge σ372 (xs (x4 + (1 : Int32)).toNatClampNeg) (xs (x4 + (2 : Int32)).toNatClampNeg) (xs (x4 + (3 : Int32)).toNatClampNeg) (xs (x4 + (4 : Int32)).toNatClampNeg)) fun v381 σ382 => pif_ (kp_ σ372 σ382) ((m_X10_thrown σ382).bind fun v386 => if v386 = v371 then if v371 = 0 then if (lg_cmp (gO_ σ382) ((v381).toInt64)) = 0 then (m_L_law_L2319 N xs k3445) σ382 x4 else some ((0 : Int32), σ382) else (m_L_law_L2319 N xs k3445) σ382 x4 else some ((0 : Int32), σ382))) else none else none else none else none else none else none
noncomputable def m_L_law_L2227 (N : Nat) (xs : Nat → Int32) (k3445 : st_T → Int32 → Option (Int32 × st_T)) (σ : st_T) (x4 : Int32) : Option (Int32 × st_T) := k3445 σ x4
noncomputable def m_L_law_L2174 (N : Nat) (xs : Nat → Int32) (k3445 : st_T → Int32 → Option (Int32 × st_T)) (σ : st_T) (x4 : Int32) : Option (Int32 × st_T) := if inb (x4 + (1 : Int32)) N then bn2_ (m_X0_fund σ (xs (x4 + (1 : Int32)).toNatClampNeg)) fun v393 σ394 => if 0 < gN_ σ 100 then if cu_ σ ≤ cu_ σ394 ∧ su_ σ ≤ su_ σ394 then ck2_ σ394 (bn2_ (m_X10_fund σ394 (xs (x4 + (1 : Int32)).toNatClampNeg)) fun v403 σ404 => pif_ (kp_ σ394 σ404) ((m_X10_thrown σ404).bind fun v408 => if v408 = v393 then if v393 = 0 then if (lg_cmp (gO_ σ404) ((v403).toInt64)) = 0 then (m_L_law_L2227 N xs k3445) σ404 x4 else some ((0 : Int32), σ404) else (m_L_law_L2227 N xs k3445) σ404 x4 else some ((0 : Int32), σ404))) else none else none else none
noncomputable def m_L_law_L2171 (N : Nat) (xs : Nat → Int32) (k3445 : st_T → Int32 → Option (Int32 × st_T)) (σ : st_T) (x4 : Int32) : Option (Int32 × st_T) := k3445 σ x4
noncomputable def m_L_law_L2082 (N : Nat) (xs : Nat → Int32) (k3445 : st_T → Int32 → Option (Int32 × st_T)) (σ : st_T) (x4 : Int32) : Option (Int32 × st_T) := if inb (x4 + (1 : Int32)) N then if inb (x4 + (2 : Int32)) N then if inb (x4 + (3 : Int32)) N then if inb (x4 + (4 : Int32)) N then bn2_ (m_X0_harm σ (xs (x4 + (1 : Int32)).toNatClampNeg) (xs (x4 + (2 : Int32)).toNatClampNeg) (xs (x4 + (3 : Int32)).toNatClampNeg) (xs (x4 + (4 : Int32)).toNatClampNeg)) fun v418 σ419 => if 0 < gN_ σ 100 then if cu_ σ ≤ cu_ σ419 ∧ su_ σ ≤ su_ σ419 then ck2_ σ419 (bn2_ (m_X10_harm σ419 (xs (x4 + (1 : Int32)).toNatClampNeg) (xs (x4 + (2 : Int32)).toNatClampNeg) (xs (x4 + (3 : Int32)).toNatClampNeg) (xs (x4 + (4 : Int32)).toNatClampNeg)) fun v428 σ429 => pif_ (kp_ σ419 σ429) ((m_X10_thrown σ429).bind fun v433 => if v433 = v418 then if v418 = 0 then if (lg_cmp (gO_ σ429) ((v428).toInt64)) = 0 then (m_L_law_L2171 N xs k3445) σ429 x4 else some ((0 : Int32), σ429) else (m_L_law_L2171 N xs k3445) σ429 x4 else some ((0 : Int32), σ429))) else none else none else none else none else none else none
noncomputable def m_L_law_L2079 (N : Nat) (xs : Nat → Int32) (k3445 : st_T → Int32 → Option (Int32 × st_T)) (σ : st_T) (x4 : Int32) : Option (Int32 × st_T) := k3445 σ x4
noncomputable def m_L_law_L2014 (N : Nat) (xs : Nat → Int32) (k3445 : st_T → Int32 → Option (Int32 × st_T)) (σ : st_T) (x4 : Int32) : Option (Int32 × st_T) := if inb (x4 + (1 : Int32)) N then if inb (x4 + (2 : Int32)) N then bn2_ (m_X0_find σ (xs (x4 + (1 : Int32)).toNatClampNeg) (xs (x4 + (2 : Int32)).toNatClampNeg)) fun v441 σ442 => if 0 < gN_ σ 100 then if cu_ σ ≤ cu_ σ442 ∧ su_ σ ≤ su_ σ442 then ck2_ σ442 (bn2_ (m_X10_find σ442 (xs (x4 + (1 : Int32)).toNatClampNeg) (xs (x4 + (2 : Int32)).toNatClampNeg)) fun v451 σ452 => pif_ (kp_ σ442 σ452) ((m_X10_thrown σ452).bind fun v456 => if v456 = v441 then if v441 = 0 then if (lg_cmp (gO_ σ452) ((v451).toInt64)) = 0 then (m_L_law_L2079 N xs k3445) σ452 x4 else some ((0 : Int32), σ452) else (m_L_law_L2079 N xs k3445) σ452 x4 else some ((0 : Int32), σ452))) else none else none else none else none
noncomputable def m_L_law_L2011 (N : Nat) (xs : Nat → Int32) (k3445 : st_T → Int32 → Option (Int32 × st_T)) (σ : st_T) (x4 : Int32) : Option (Int32 × st_T) := k3445 σ x4
noncomputable def m_L_law_L1946 (N : Nat) (xs : Nat → Int32) (k3445 : st_T → Int32 → Option (Int32 × st_T)) (σ : st_T) (x4 : Int32) : Option (Int32 × st_T) := if inb (x4 + (1 : Int32)) N then if inb (x4 + (2 : Int32)) N then bn2_ (m_X0_loads σ (xs (x4 + (1 : Int32)).toNatClampNeg) (xs (x4 + (2 : Int32)).toNatClampNeg)) fun v464 σ465 => if 0 < gN_ σ 100 then if cu_ σ ≤ cu_ σ465 ∧ su_ σ ≤ su_ σ465 then ck2_ σ465 (bn2_ (m_X10_loads σ465 (xs (x4 + (1 : Int32)).toNatClampNeg) (xs (x4 + (2 : Int32)).toNatClampNeg)) fun v474 σ475 => pif_ (kp_ σ465 σ475) ((m_X10_thrown σ475).bind fun v479 => if v479 = v464 then if v464 = 0 then if (lg_cmp (gO_ σ475) ((v474).toInt64)) = 0 then (m_L_law_L2011 N xs k3445) σ475 x4 else some ((0 : Int32), σ475) else (m_L_law_L2011 N xs k3445) σ475 x4 else some ((0 : Int32), σ475))) else none else none else none else none
noncomputable def m_L_law_L1943 (N : Nat) (xs : Nat → Int32) (k3445 : st_T → Int32 → Option (Int32 × st_T)) (σ : st_T) (x4 : Int32) : Option (Int32 × st_T) := k3445 σ x4
noncomputable def m_L_law_L1854 (N : Nat) (xs : Nat → Int32) (k3445 : st_T → Int32 → Option (Int32 × st_T)) (σ : st_T) (x4 : Int32) : Option (Int32 × st_T) := if inb (x4 + (1 : Int32)) N then if inb (x4 + (2 : Int32)) N then if inb (x4 + (3 : Int32)) N then if inb (x4 + (4 : Int32)) N then bn2_ (m_X0_rota σ (xs (x4 + (1 : Int32)).toNatClampNeg) (xs (x4 + (2 : Int32)).toNatClampNeg) (xs (x4 + (3 : Int32)).toNatClampNeg) (xs (x4 + (4 : Int32)).toNatClampNeg)) fun v489 σ490 => if 0 < gN_ σ 100 then if cu_ σ ≤ cu_ σ490 ∧ su_ σ ≤ su_ σ490 then ck2_ σ490 (bn2_ (m_X10_rota σ490 (xs (x4 + (1 : Int32)).toNatClampNeg) (xs (x4 + (2 : Int32)).toNatClampNeg) (xs (x4 + (3 : Int32)).toNatClampNeg) (xs (x4 + (4 : Int32)).toNatClampNeg)) fun v499 σ500 => pif_ (kp_ σ490 σ500) ((m_X10_thrown σ500).bind fun v504 => if v504 = v489 then if v489 = 0 then if (lg_cmp (gO_ σ500) ((v499).toInt64)) = 0 then (m_L_law_L1943 N xs k3445) σ500 x4 else some ((0 : Int32), σ500) else (m_L_law_L1943 N xs k3445) σ500 x4 else some ((0 : Int32), σ500))) else none else none else none else none else none else none
noncomputable def m_L_law_L1851 (N : Nat) (xs : Nat → Int32) (k3445 : st_T → Int32 → Option (Int32 × st_T)) (σ : st_T) (x4 : Int32) : Option (Int32 × st_T) := k3445 σ x4
noncomputable def m_L_law_L1845 (N : Nat) (xs : Nat → Int32) (k1851 : st_T → Int32 → Option (Int32 × st_T)) (σ : st_T) (x4 : Int32) (t0 : Int64) (t1 : Int64) : Option (Int32 × st_T) := if (lg_cmp t0 t1) = 0 then k1851 σ x4 else some ((0 : Int32), σ)
noncomputable def m_L_law_L1811 (N : Nat) (xs : Nat → Int32) (k3445 : st_T → Int32 → Option (Int32 × st_T)) (σ : st_T) (x4 : Int32) (x5 : Int32) (t1 : Int32) (t2 : Int32) (t3 : Int32) : Option (Int32 × st_T) := bn2_ (m_X10_away σ t1 t2 t3) fun v511 σ512 => pif_ (kp_ σ σ512) ((m_X10_thrown σ512).bind fun v515 => if v515 = x5 then if x5 = 0 then if 0 < gN_ σ512 100 then if v511 = 0 then (m_L_law_L1845 N xs (m_L_law_L1851 N xs k3445)) σ512 x4 (gO_ σ512) (0 : Int64) else (m_L_law_L1845 N xs (m_L_law_L1851 N xs k3445)) σ512 x4 (gO_ σ512) (1 : Int64) else none else (m_L_law_L1851 N xs k3445) σ512 x4 else some ((0 : Int32), σ512))
noncomputable def m_L_law_L1778 (N : Nat) (xs : Nat → Int32) (k3445 : st_T → Int32 → Option (Int32 × st_T)) (σ : st_T) (x4 : Int32) (t1 : Int32) (t2 : Int32) (t3 : Int32) : Option (Int32 × st_T) := bn2_ (m_X0_away σ t1 t2 t3) fun v522 σ523 => if 0 < gN_ σ 100 then if cu_ σ ≤ cu_ σ523 ∧ su_ σ ≤ su_ σ523 then ck2_ σ523 (if inb (x4 + (1 : Int32)) N then if inb (x4 + (2 : Int32)) N then if inb (x4 + (3 : Int32)) N then if (xs (x4 + (3 : Int32)).toNatClampNeg) = 0 then (m_L_law_L1811 N xs k3445) σ523 x4 v522 (xs (x4 + (1 : Int32)).toNatClampNeg) (xs (x4 + (2 : Int32)).toNatClampNeg) (0 : Int32) else (m_L_law_L1811 N xs k3445) σ523 x4 v522 (xs (x4 + (1 : Int32)).toNatClampNeg) (xs (x4 + (2 : Int32)).toNatClampNeg) (1 : Int32) else none else none else none) else none else none
noncomputable def m_L_law_L1751 (N : Nat) (xs : Nat → Int32) (k3445 : st_T → Int32 → Option (Int32 × st_T)) (σ : st_T) (x4 : Int32) : Option (Int32 × st_T) := if inb (x4 + (1 : Int32)) N then if inb (x4 + (2 : Int32)) N then if inb (x4 + (3 : Int32)) N then if (xs (x4 + (3 : Int32)).toNatClampNeg) = 0 then (m_L_law_L1778 N xs k3445) σ x4 (xs (x4 + (1 : Int32)).toNatClampNeg) (xs (x4 + (2 : Int32)).toNatClampNeg) (0 : Int32) else (m_L_law_L1778 N xs k3445) σ x4 (xs (x4 + (1 : Int32)).toNatClampNeg) (xs (x4 + (2 : Int32)).toNatClampNeg) (1 : Int32) else none else none else none
noncomputable def m_L_law_L1748 (N : Nat) (xs : Nat → Int32) (k3445 : st_T → Int32 → Option (Int32 × st_T)) (σ : st_T) (x4 : Int32) : Option (Int32 × st_T) := k3445 σ x4
noncomputable def m_L_law_L1715 (N : Nat) (xs : Nat → Int32) (k3445 : st_T → Int32 → Option (Int32 × st_T)) (σ : st_T) (x4 : Int32) (x5 : Int32) (t1 : Int32) (t2 : Int32) : Option (Int32 × st_T) := bn2_ (m_X10_join σ t1 t2) fun v540 σ541 => pif_ (kp_ σ σ541) ((m_X10_thrown σ541).bind fun v544 => if v544 = x5 then if x5 = 0 then if 0 < gN_ σ541 100 then if (lg_cmp (gO_ σ541) ((v540).toInt64)) = 0 then (m_L_law_L1748 N xs k3445) σ541 x4 else some ((0 : Int32), σ541) else none else (m_L_law_L1748 N xs k3445) σ541 x4 else some ((0 : Int32), σ541))
noncomputable def m_L_law_L1688 (N : Nat) (xs : Nat → Int32) (k3445 : st_T → Int32 → Option (Int32 × st_T)) (σ : st_T) (x4 : Int32) (t1 : Int32) (t2 : Int32) : Option (Int32 × st_T) := bn2_ (m_X0_join σ t1 t2) fun v551 σ552 => if 0 < gN_ σ 100 then if cu_ σ ≤ cu_ σ552 ∧ su_ σ ≤ su_ σ552 then ck2_ σ552 (if inb (x4 + (1 : Int32)) N then if inb (x4 + (2 : Int32)) N then if (xs (x4 + (2 : Int32)).toNatClampNeg) = 0 then (m_L_law_L1715 N xs k3445) σ552 x4 v551 (xs (x4 + (1 : Int32)).toNatClampNeg) (0 : Int32) else (m_L_law_L1715 N xs k3445) σ552 x4 v551 (xs (x4 + (1 : Int32)).toNatClampNeg) (1 : Int32) else none else none) else none else none
noncomputable def m_L_law_L1667 (N : Nat) (xs : Nat → Int32) (k3445 : st_T → Int32 → Option (Int32 × st_T)) (σ : st_T) (x4 : Int32) : Option (Int32 × st_T) := if inb (x4 + (1 : Int32)) N then if inb (x4 + (2 : Int32)) N then if (xs (x4 + (2 : Int32)).toNatClampNeg) = 0 then (m_L_law_L1688 N xs k3445) σ x4 (xs (x4 + (1 : Int32)).toNatClampNeg) (0 : Int32) else (m_L_law_L1688 N xs k3445) σ x4 (xs (x4 + (1 : Int32)).toNatClampNeg) (1 : Int32) else none else none
noncomputable def m_L_law_L1664 (N : Nat) (xs : Nat → Int32) (k3445 : st_T → Int32 → Option (Int32 × st_T)) (σ : st_T) (x4 : Int32) : Option (Int32 × st_T) := k3445 σ x4
noncomputable def m_L_law_L1599 (N : Nat) (xs : Nat → Int32) (k3445 : st_T → Int32 → Option (Int32 × st_T)) (σ : st_T) (x4 : Int32) : Option (Int32 × st_T) := if inb (x4 + (1 : Int32)) N then if inb (x4 + (2 : Int32)) N then bn2_ (m_X0_post σ (xs (x4 + (1 : Int32)).toNatClampNeg) (xs (x4 + (2 : Int32)).toNatClampNeg)) fun v569 σ570 => if 0 < gN_ σ 100 then if cu_ σ ≤ cu_ σ570 ∧ su_ σ ≤ su_ σ570 then ck2_ σ570 (bn2_ (m_X10_post σ570 (xs (x4 + (1 : Int32)).toNatClampNeg) (xs (x4 + (2 : Int32)).toNatClampNeg)) fun v579 σ580 => pif_ (kp_ σ570 σ580) ((m_X10_thrown σ580).bind fun v584 => if v584 = v569 then if v569 = 0 then if (lg_cmp (gO_ σ580) ((v579).toInt64)) = 0 then (m_L_law_L1664 N xs k3445) σ580 x4 else some ((0 : Int32), σ580) else (m_L_law_L1664 N xs k3445) σ580 x4 else some ((0 : Int32), σ580))) else none else none else none else none
noncomputable def m_L_law_L1596 (N : Nat) (xs : Nat → Int32) (k3445 : st_T → Int32 → Option (Int32 × st_T)) (σ : st_T) (x4 : Int32) : Option (Int32 × st_T) := k3445 σ x4
noncomputable def m_L_law_L1543 (N : Nat) (xs : Nat → Int32) (k3445 : st_T → Int32 → Option (Int32 × st_T)) (σ : st_T) (x4 : Int32) : Option (Int32 × st_T) := if inb (x4 + (1 : Int32)) N then bn2_ (m_X0_watched σ (xs (x4 + (1 : Int32)).toNatClampNeg)) fun v591 σ592 => if 0 < gN_ σ 100 then if cu_ σ ≤ cu_ σ592 ∧ su_ σ ≤ su_ σ592 then ck2_ σ592 (bn2_ (m_X10_watched σ592 (xs (x4 + (1 : Int32)).toNatClampNeg)) fun v601 σ602 => pif_ (kp_ σ592 σ602) ((m_X10_thrown σ602).bind fun v606 => if v606 = v591 then if v591 = 0 then if (lg_cmp (gO_ σ602) ((v601).toInt64)) = 0 then (m_L_law_L1596 N xs k3445) σ602 x4 else some ((0 : Int32), σ602) else (m_L_law_L1596 N xs k3445) σ602 x4 else some ((0 : Int32), σ602))) else none else none else none
noncomputable def m_L_law_L1518 (N : Nat) (xs : Nat → Int32) (k3445 : st_T → Int32 → Option (Int32 × st_T)) (σ : st_T) (x4 : Int32) : Option (Int32 × st_T) := if inb (x4 + (1 : Int32)) N then (m_X1_turn σ (xs (x4 + (1 : Int32)).toNatClampNeg)).bind fun v613 => bn2_ (m_X10_turn σ (xs (x4 + (1 : Int32)).toNatClampNeg)) fun v616 σ617 => pif_ (kp_ σ σ617) (if v613 = v616 then k3445 σ617 x4 else some ((0 : Int32), σ617)) else none
noncomputable def m_L_law_L1515 (N : Nat) (xs : Nat → Int32) (k3445 : st_T → Int32 → Option (Int32 × st_T)) (σ : st_T) (x4 : Int32) : Option (Int32 × st_T) := k3445 σ x4
noncomputable def m_L_law_L1450 (N : Nat) (xs : Nat → Int32) (k3445 : st_T → Int32 → Option (Int32 × st_T)) (σ : st_T) (x4 : Int32) : Option (Int32 × st_T) := if inb (x4 + (1 : Int32)) N then if inb (x4 + (2 : Int32)) N then bn2_ (m_X0_watch σ (xs (x4 + (1 : Int32)).toNatClampNeg) (xs (x4 + (2 : Int32)).toNatClampNeg)) fun v623 σ624 => if 0 < gN_ σ 100 then if cu_ σ ≤ cu_ σ624 ∧ su_ σ ≤ su_ σ624 then ck2_ σ624 (bn2_ (m_X10_watch σ624 (xs (x4 + (1 : Int32)).toNatClampNeg) (xs (x4 + (2 : Int32)).toNatClampNeg)) fun v633 σ634 => pif_ (kp_ σ624 σ634) ((m_X10_thrown σ634).bind fun v638 => if v638 = v623 then if v623 = 0 then if (lg_cmp (gO_ σ634) ((v633).toInt64)) = 0 then (m_L_law_L1515 N xs k3445) σ634 x4 else some ((0 : Int32), σ634) else (m_L_law_L1515 N xs k3445) σ634 x4 else some ((0 : Int32), σ634))) else none else none else none else none
noncomputable def m_L_law_L1447 (N : Nat) (xs : Nat → Int32) (k3445 : st_T → Int32 → Option (Int32 × st_T)) (σ : st_T) (x4 : Int32) : Option (Int32 × st_T) := k3445 σ x4
noncomputable def m_L_law_L1394 (N : Nat) (xs : Nat → Int32) (k3445 : st_T → Int32 → Option (Int32 × st_T)) (σ : st_T) (x4 : Int32) : Option (Int32 × st_T) := if inb (x4 + (1 : Int32)) N then bn2_ (m_X0_debt σ (xs (x4 + (1 : Int32)).toNatClampNeg)) fun v645 σ646 => if 0 < gN_ σ 100 then if cu_ σ ≤ cu_ σ646 ∧ su_ σ ≤ su_ σ646 then ck2_ σ646 (bn2_ (m_X10_debt σ646 (xs (x4 + (1 : Int32)).toNatClampNeg)) fun v655 σ656 => pif_ (kp_ σ646 σ656) ((m_X10_thrown σ656).bind fun v660 => if v660 = v645 then if v645 = 0 then if (lg_cmp (gO_ σ656) ((v655).toInt64)) = 0 then (m_L_law_L1447 N xs k3445) σ656 x4 else some ((0 : Int32), σ656) else (m_L_law_L1447 N xs k3445) σ656 x4 else some ((0 : Int32), σ656))) else none else none else none
noncomputable def m_L_law_L1381 (N : Nat) (xs : Nat → Int32) (k3445 : st_T → Int32 → Option (Int32 × st_T)) (σ : st_T) (x4 : Int32) : Option (Int32 × st_T) := bn2_ (m_X1_night σ) fun v666 σ667 => if 0 < gN_ σ 100 then if cu_ σ ≤ cu_ σ667 ∧ su_ σ ≤ su_ σ667 then ck2_ σ667 (bn2_ (m_X10_night σ667) fun v676 σ677 => pif_ (kp_ σ667 σ677) (if v666 = v676 then k3445 σ677 x4 else some ((0 : Int32), σ677))) else none else none
noncomputable def m_L_law_L1378 (N : Nat) (xs : Nat → Int32) (k3445 : st_T → Int32 → Option (Int32 × st_T)) (σ : st_T) (x4 : Int32) : Option (Int32 × st_T) := k3445 σ x4
noncomputable def m_L_law_L1313 (N : Nat) (xs : Nat → Int32) (k3445 : st_T → Int32 → Option (Int32 × st_T)) (σ : st_T) (x4 : Int32) : Option (Int32 × st_T) := if inb (x4 + (1 : Int32)) N then if inb (x4 + (2 : Int32)) N then bn2_ (m_X0_build σ (xs (x4 + (1 : Int32)).toNatClampNeg) (xs (x4 + (2 : Int32)).toNatClampNeg)) fun v684 σ685 => if 0 < gN_ σ 100 then if cu_ σ ≤ cu_ σ685 ∧ su_ σ ≤ su_ σ685 then ck2_ σ685 (bn2_ (m_X10_build σ685 (xs (x4 + (1 : Int32)).toNatClampNeg) (xs (x4 + (2 : Int32)).toNatClampNeg)) fun v694 σ695 => pif_ (kp_ σ685 σ695) ((m_X10_thrown σ695).bind fun v699 => if v699 = v684 then if v684 = 0 then if (lg_cmp (gO_ σ695) ((v694).toInt64)) = 0 then (m_L_law_L1378 N xs k3445) σ695 x4 else some ((0 : Int32), σ695) else (m_L_law_L1378 N xs k3445) σ695 x4 else some ((0 : Int32), σ695))) else none else none else none else none
noncomputable def m_L_law_L1310 (N : Nat) (xs : Nat → Int32) (k3445 : st_T → Int32 → Option (Int32 × st_T)) (σ : st_T) (x4 : Int32) : Option (Int32 × st_T) := k3445 σ x4
noncomputable def m_L_law_L1233 (N : Nat) (xs : Nat → Int32) (k3445 : st_T → Int32 → Option (Int32 × st_T)) (σ : st_T) (x4 : Int32) : Option (Int32 × st_T) := if inb (x4 + (1 : Int32)) N then if inb (x4 + (2 : Int32)) N then if inb (x4 + (3 : Int32)) N then bn2_ (m_X0_pushed σ (xs (x4 + (1 : Int32)).toNatClampNeg) (xs (x4 + (2 : Int32)).toNatClampNeg) (xs (x4 + (3 : Int32)).toNatClampNeg)) fun v708 σ709 => if 0 < gN_ σ 100 then if cu_ σ ≤ cu_ σ709 ∧ su_ σ ≤ su_ σ709 then ck2_ σ709 (bn2_ (m_X10_pushed σ709 (xs (x4 + (1 : Int32)).toNatClampNeg) (xs (x4 + (2 : Int32)).toNatClampNeg) (xs (x4 + (3 : Int32)).toNatClampNeg)) fun v718 σ719 => pif_ (kp_ σ709 σ719) ((m_X10_thrown σ719).bind fun v723 => if v723 = v708 then if v708 = 0 then if (lg_cmp (gO_ σ719) ((v718).toInt64)) = 0 then (m_L_law_L1310 N xs k3445) σ719 x4 else some ((0 : Int32), σ719) else (m_L_law_L1310 N xs k3445) σ719 x4 else some ((0 : Int32), σ719))) else none else none else none else none else none
noncomputable def m_L_law_L1230 (N : Nat) (xs : Nat → Int32) (k3445 : st_T → Int32 → Option (Int32 × st_T)) (σ : st_T) (x4 : Int32) : Option (Int32 × st_T) := k3445 σ x4
noncomputable def m_L_law_L1165 (N : Nat) (xs : Nat → Int32) (k3445 : st_T → Int32 → Option (Int32 × st_T)) (σ : st_T) (x4 : Int32) : Option (Int32 × st_T) := if inb (x4 + (1 : Int32)) N then if inb (x4 + (2 : Int32)) N then bn2_ (m_X0_foretold σ (xs (x4 + (1 : Int32)).toNatClampNeg) (xs (x4 + (2 : Int32)).toNatClampNeg)) fun v731 σ732 => if 0 < gN_ σ 100 then if cu_ σ ≤ cu_ σ732 ∧ su_ σ ≤ su_ σ732 then ck2_ σ732 (bn2_ (m_X10_foretold σ732 (xs (x4 + (1 : Int32)).toNatClampNeg) (xs (x4 + (2 : Int32)).toNatClampNeg)) fun v741 σ742 => pif_ (kp_ σ732 σ742) ((m_X10_thrown σ742).bind fun v746 => if v746 = v731 then if v731 = 0 then if (lg_cmp (gO_ σ742) ((v741).toInt64)) = 0 then (m_L_law_L1230 N xs k3445) σ742 x4 else some ((0 : Int32), σ742) else (m_L_law_L1230 N xs k3445) σ742 x4 else some ((0 : Int32), σ742))) else none else none else none else none
noncomputable def m_L_law_L1162 (N : Nat) (xs : Nat → Int32) (k3445 : st_T → Int32 → Option (Int32 × st_T)) (σ : st_T) (x4 : Int32) : Option (Int32 × st_T) := k3445 σ x4
noncomputable def m_L_law_L1085 (N : Nat) (xs : Nat → Int32) (k3445 : st_T → Int32 → Option (Int32 × st_T)) (σ : st_T) (x4 : Int32) : Option (Int32 × st_T) := if inb (x4 + (1 : Int32)) N then if inb (x4 + (2 : Int32)) N then if inb (x4 + (3 : Int32)) N then bn2_ (m_X0_way σ (xs (x4 + (1 : Int32)).toNatClampNeg) (xs (x4 + (2 : Int32)).toNatClampNeg) (xs (x4 + (3 : Int32)).toNatClampNeg)) fun v755 σ756 => if 0 < gN_ σ 100 then if cu_ σ ≤ cu_ σ756 ∧ su_ σ ≤ su_ σ756 then ck2_ σ756 (bn2_ (m_X10_way σ756 (xs (x4 + (1 : Int32)).toNatClampNeg) (xs (x4 + (2 : Int32)).toNatClampNeg) (xs (x4 + (3 : Int32)).toNatClampNeg)) fun v765 σ766 => pif_ (kp_ σ756 σ766) ((m_X10_thrown σ766).bind fun v770 => if v770 = v755 then if v755 = 0 then if (lg_cmp (gO_ σ766) ((v765).toInt64)) = 0 then (m_L_law_L1162 N xs k3445) σ766 x4 else some ((0 : Int32), σ766) else (m_L_law_L1162 N xs k3445) σ766 x4 else some ((0 : Int32), σ766))) else none else none else none else none else none
noncomputable def m_L_law_L1082 (N : Nat) (xs : Nat → Int32) (k3445 : st_T → Int32 → Option (Int32 × st_T)) (σ : st_T) (x4 : Int32) : Option (Int32 × st_T) := k3445 σ x4
noncomputable def m_L_law_L1017 (N : Nat) (xs : Nat → Int32) (k3445 : st_T → Int32 → Option (Int32 × st_T)) (σ : st_T) (x4 : Int32) : Option (Int32 × st_T) := if inb (x4 + (1 : Int32)) N then if inb (x4 + (2 : Int32)) N then bn2_ (m_X0_cost σ (xs (x4 + (1 : Int32)).toNatClampNeg) (xs (x4 + (2 : Int32)).toNatClampNeg)) fun v778 σ779 => if 0 < gN_ σ 100 then if cu_ σ ≤ cu_ σ779 ∧ su_ σ ≤ su_ σ779 then ck2_ σ779 (bn2_ (m_X10_cost σ779 (xs (x4 + (1 : Int32)).toNatClampNeg) (xs (x4 + (2 : Int32)).toNatClampNeg)) fun v788 σ789 => pif_ (kp_ σ779 σ789) ((m_X10_thrown σ789).bind fun v793 => if v793 = v778 then if v778 = 0 then if (lg_cmp (gO_ σ789) ((v788).toInt64)) = 0 then (m_L_law_L1082 N xs k3445) σ789 x4 else some ((0 : Int32), σ789) else (m_L_law_L1082 N xs k3445) σ789 x4 else some ((0 : Int32), σ789))) else none else none else none else none
noncomputable def m_L_law_L1014 (N : Nat) (xs : Nat → Int32) (k3445 : st_T → Int32 → Option (Int32 × st_T)) (σ : st_T) (x4 : Int32) : Option (Int32 × st_T) := k3445 σ x4
noncomputable def m_L_law_L937 (N : Nat) (xs : Nat → Int32) (k3445 : st_T → Int32 → Option (Int32 × st_T)) (σ : st_T) (x4 : Int32) : Option (Int32 × st_T) := if inb (x4 + (1 : Int32)) N then if inb (x4 + (2 : Int32)) N then if inb (x4 + (3 : Int32)) N then bn2_ (m_X0_herd σ (xs (x4 + (1 : Int32)).toNatClampNeg) (xs (x4 + (2 : Int32)).toNatClampNeg) (xs (x4 + (3 : Int32)).toNatClampNeg)) fun v802 σ803 => if 0 < gN_ σ 100 then if cu_ σ ≤ cu_ σ803 ∧ su_ σ ≤ su_ σ803 then ck2_ σ803 (bn2_ (m_X10_herd σ803 (xs (x4 + (1 : Int32)).toNatClampNeg) (xs (x4 + (2 : Int32)).toNatClampNeg) (xs (x4 + (3 : Int32)).toNatClampNeg)) fun v812 σ813 => pif_ (kp_ σ803 σ813) ((m_X10_thrown σ813).bind fun v817 => if v817 = v802 then if v802 = 0 then if (lg_cmp (gO_ σ813) ((v812).toInt64)) = 0 then (m_L_law_L1014 N xs k3445) σ813 x4 else some ((0 : Int32), σ813) else (m_L_law_L1014 N xs k3445) σ813 x4 else some ((0 : Int32), σ813))) else none else none else none else none else none
noncomputable def m_L_law_L934 (N : Nat) (xs : Nat → Int32) (k3445 : st_T → Int32 → Option (Int32 × st_T)) (σ : st_T) (x4 : Int32) : Option (Int32 × st_T) := k3445 σ x4
noncomputable def m_L_law_L869 (N : Nat) (xs : Nat → Int32) (k3445 : st_T → Int32 → Option (Int32 × st_T)) (σ : st_T) (x4 : Int32) : Option (Int32 × st_T) := if inb (x4 + (1 : Int32)) N then if inb (x4 + (2 : Int32)) N then bn2_ (m_X0_like σ (xs (x4 + (1 : Int32)).toNatClampNeg) (xs (x4 + (2 : Int32)).toNatClampNeg)) fun v825 σ826 => if 0 < gN_ σ 100 then if cu_ σ ≤ cu_ σ826 ∧ su_ σ ≤ su_ σ826 then ck2_ σ826 (bn2_ (m_X10_like σ826 (xs (x4 + (1 : Int32)).toNatClampNeg) (xs (x4 + (2 : Int32)).toNatClampNeg)) fun v835 σ836 => pif_ (kp_ σ826 σ836) ((m_X10_thrown σ836).bind fun v840 => if v840 = v825 then if v825 = 0 then if (lg_cmp (gO_ σ836) ((v835).toInt64)) = 0 then (m_L_law_L934 N xs k3445) σ836 x4 else some ((0 : Int32), σ836) else (m_L_law_L934 N xs k3445) σ836 x4 else some ((0 : Int32), σ836))) else none else none else none else none
noncomputable def m_L_law_L866 (N : Nat) (xs : Nat → Int32) (k3445 : st_T → Int32 → Option (Int32 × st_T)) (σ : st_T) (x4 : Int32) : Option (Int32 × st_T) := k3445 σ x4
noncomputable def m_L_law_L813 (N : Nat) (xs : Nat → Int32) (k3445 : st_T → Int32 → Option (Int32 × st_T)) (σ : st_T) (x4 : Int32) : Option (Int32 × st_T) := if inb (x4 + (1 : Int32)) N then bn2_ (m_X0_rule σ (xs (x4 + (1 : Int32)).toNatClampNeg)) fun v847 σ848 => if 0 < gN_ σ 100 then if cu_ σ ≤ cu_ σ848 ∧ su_ σ ≤ su_ σ848 then ck2_ σ848 (bn2_ (m_X10_rule σ848 (xs (x4 + (1 : Int32)).toNatClampNeg)) fun v857 σ858 => pif_ (kp_ σ848 σ858) ((m_X10_thrown σ858).bind fun v862 => if v862 = v847 then if v847 = 0 then if (lg_cmp (gO_ σ858) ((v857).toInt64)) = 0 then (m_L_law_L866 N xs k3445) σ858 x4 else some ((0 : Int32), σ858) else (m_L_law_L866 N xs k3445) σ858 x4 else some ((0 : Int32), σ858))) else none else none else none
noncomputable def m_L_law_L740 (N : Nat) (xs : Nat → Int32) (k3445 : st_T → Int32 → Option (Int32 × st_T)) (σ : st_T) (x4 : Int32) : Option (Int32 × st_T) := if inb (x4 + (1 : Int32)) N then if inb (x4 + (2 : Int32)) N then if inb (x4 + (3 : Int32)) N then if inb (x4 + (4 : Int32)) N then if inb (x4 + (5 : Int32)) N then bn2_ (m_X1_feed σ (xs (x4 + (1 : Int32)).toNatClampNeg) (xs (x4 + (2 : Int32)).toNatClampNeg) (xs (x4 + (3 : Int32)).toNatClampNeg) (xs (x4 + (4 : Int32)).toNatClampNeg) (xs (x4 + (5 : Int32)).toNatClampNeg)) fun v873 σ874 => if 0 < gN_ σ 100 then if cu_ σ ≤ cu_ σ874 ∧ su_ σ ≤ su_ σ874 then ck2_ σ874 (bn2_ (m_X10_feed σ874 (xs (x4 + (1 : Int32)).toNatClampNeg) (xs (x4 + (2 : Int32)).toNatClampNeg) (xs (x4 + (3 : Int32)).toNatClampNeg) (xs (x4 + (4 : Int32)).toNatClampNeg) (xs (x4 + (5 : Int32)).toNatClampNeg)) fun v883 σ884 => pif_ (kp_ σ874 σ884) (if v873 = v883 then k3445 σ884 x4 else some ((0 : Int32), σ884))) else none else none else none else none else none else none else none
noncomputable def m_L_law_L737 (N : Nat) (xs : Nat → Int32) (k3445 : st_T → Int32 → Option (Int32 × st_T)) (σ : st_T) (x4 : Int32) : Option (Int32 × st_T) := k3445 σ x4
noncomputable def m_L_law_L684 (N : Nat) (xs : Nat → Int32) (k3445 : st_T → Int32 → Option (Int32 × st_T)) (σ : st_T) (x4 : Int32) : Option (Int32 × st_T) := if inb (x4 + (1 : Int32)) N then bn2_ (m_X0_fear σ (xs (x4 + (1 : Int32)).toNatClampNeg)) fun v890 σ891 => if 0 < gN_ σ 100 then if cu_ σ ≤ cu_ σ891 ∧ su_ σ ≤ su_ σ891 then ck2_ σ891 (bn2_ (m_X10_fear σ891 (xs (x4 + (1 : Int32)).toNatClampNeg)) fun v900 σ901 => pif_ (kp_ σ891 σ901) ((m_X10_thrown σ901).bind fun v905 => if v905 = v890 then if v890 = 0 then if (lg_cmp (gO_ σ901) ((v900).toInt64)) = 0 then (m_L_law_L737 N xs k3445) σ901 x4 else some ((0 : Int32), σ901) else (m_L_law_L737 N xs k3445) σ901 x4 else some ((0 : Int32), σ901))) else none else none else none
noncomputable def m_L_law_L681 (N : Nat) (xs : Nat → Int32) (k3445 : st_T → Int32 → Option (Int32 × st_T)) (σ : st_T) (x4 : Int32) : Option (Int32 × st_T) := k3445 σ x4
noncomputable def m_L_law_L616 (N : Nat) (xs : Nat → Int32) (k3445 : st_T → Int32 → Option (Int32 × st_T)) (σ : st_T) (x4 : Int32) : Option (Int32 × st_T) := if inb (x4 + (1 : Int32)) N then if inb (x4 + (2 : Int32)) N then bn2_ (m_X0_fenced σ (xs (x4 + (1 : Int32)).toNatClampNeg) (xs (x4 + (2 : Int32)).toNatClampNeg)) fun v913 σ914 => if 0 < gN_ σ 100 then if cu_ σ ≤ cu_ σ914 ∧ su_ σ ≤ su_ σ914 then ck2_ σ914 (bn2_ (m_X10_fenced σ914 (xs (x4 + (1 : Int32)).toNatClampNeg) (xs (x4 + (2 : Int32)).toNatClampNeg)) fun v923 σ924 => pif_ (kp_ σ914 σ924) ((m_X10_thrown σ924).bind fun v928 => if v928 = v913 then if v913 = 0 then if (lg_cmp (gO_ σ924) ((v923).toInt64)) = 0 then (m_L_law_L681 N xs k3445) σ924 x4 else some ((0 : Int32), σ924) else (m_L_law_L681 N xs k3445) σ924 x4 else some ((0 : Int32), σ924))) else none else none else none else none
noncomputable def m_L_law_L613 (N : Nat) (xs : Nat → Int32) (k3445 : st_T → Int32 → Option (Int32 × st_T)) (σ : st_T) (x4 : Int32) : Option (Int32 × st_T) := k3445 σ x4
noncomputable def m_L_law_L524 (N : Nat) (xs : Nat → Int32) (k3445 : st_T → Int32 → Option (Int32 × st_T)) (σ : st_T) (x4 : Int32) : Option (Int32 × st_T) := if inb (x4 + (1 : Int32)) N then if inb (x4 + (2 : Int32)) N then if inb (x4 + (3 : Int32)) N then if inb (x4 + (4 : Int32)) N then bn2_ (m_X0_fence σ (xs (x4 + (1 : Int32)).toNatClampNeg) (xs (x4 + (2 : Int32)).toNatClampNeg) (xs (x4 + (3 : Int32)).toNatClampNeg) (xs (x4 + (4 : Int32)).toNatClampNeg)) fun v938 σ939 => if 0 < gN_ σ 100 then if cu_ σ ≤ cu_ σ939 ∧ su_ σ ≤ su_ σ939 then ck2_ σ939 (bn2_ (m_X10_fence σ939 (xs (x4 + (1 : Int32)).toNatClampNeg) (xs (x4 + (2 : Int32)).toNatClampNeg) (xs (x4 + (3 : Int32)).toNatClampNeg) (xs (x4 + (4 : Int32)).toNatClampNeg)) fun v948 σ949 => pif_ (kp_ σ939 σ949) ((m_X10_thrown σ949).bind fun v953 => if v953 = v938 then if v938 = 0 then if (lg_cmp (gO_ σ949) ((v948).toInt64)) = 0 then (m_L_law_L613 N xs k3445) σ949 x4 else some ((0 : Int32), σ949) else (m_L_law_L613 N xs k3445) σ949 x4 else some ((0 : Int32), σ949))) else none else none else none else none else none else none
noncomputable def m_L_law_L521 (N : Nat) (xs : Nat → Int32) (k3445 : st_T → Int32 → Option (Int32 × st_T)) (σ : st_T) (x4 : Int32) : Option (Int32 × st_T) := k3445 σ x4
noncomputable def m_L_law_L456 (N : Nat) (xs : Nat → Int32) (k3445 : st_T → Int32 → Option (Int32 × st_T)) (σ : st_T) (x4 : Int32) : Option (Int32 × st_T) := if inb (x4 + (1 : Int32)) N then if inb (x4 + (2 : Int32)) N then bn2_ (m_X0_village σ (xs (x4 + (1 : Int32)).toNatClampNeg) (xs (x4 + (2 : Int32)).toNatClampNeg)) fun v961 σ962 => if 0 < gN_ σ 100 then if cu_ σ ≤ cu_ σ962 ∧ su_ σ ≤ su_ σ962 then ck2_ σ962 (bn2_ (m_X10_village σ962 (xs (x4 + (1 : Int32)).toNatClampNeg) (xs (x4 + (2 : Int32)).toNatClampNeg)) fun v971 σ972 => pif_ (kp_ σ962 σ972) ((m_X10_thrown σ972).bind fun v976 => if v976 = v961 then if v961 = 0 then if (lg_cmp (gO_ σ972) ((v971).toInt64)) = 0 then (m_L_law_L521 N xs k3445) σ972 x4 else some ((0 : Int32), σ972) else (m_L_law_L521 N xs k3445) σ972 x4 else some ((0 : Int32), σ972))) else none else none else none else none
noncomputable def m_L_law_L453 (N : Nat) (xs : Nat → Int32) (k3445 : st_T → Int32 → Option (Int32 × st_T)) (σ : st_T) (x4 : Int32) : Option (Int32 × st_T) := k3445 σ x4
noncomputable def m_L_law_L400 (N : Nat) (xs : Nat → Int32) (k3445 : st_T → Int32 → Option (Int32 × st_T)) (σ : st_T) (x4 : Int32) : Option (Int32 × st_T) := if inb (x4 + (1 : Int32)) N then bn2_ (m_X0_stalks σ (xs (x4 + (1 : Int32)).toNatClampNeg)) fun v983 σ984 => if 0 < gN_ σ 100 then if cu_ σ ≤ cu_ σ984 ∧ su_ σ ≤ su_ σ984 then ck2_ σ984 (bn2_ (m_X10_stalks σ984 (xs (x4 + (1 : Int32)).toNatClampNeg)) fun v993 σ994 => pif_ (kp_ σ984 σ994) ((m_X10_thrown σ994).bind fun v998 => if v998 = v983 then if v983 = 0 then if (lg_cmp (gO_ σ994) ((v993).toInt64)) = 0 then (m_L_law_L453 N xs k3445) σ994 x4 else some ((0 : Int32), σ994) else (m_L_law_L453 N xs k3445) σ994 x4 else some ((0 : Int32), σ994))) else none else none else none
noncomputable def m_L_law_L397 (N : Nat) (xs : Nat → Int32) (k3445 : st_T → Int32 → Option (Int32 × st_T)) (σ : st_T) (x4 : Int32) : Option (Int32 × st_T) := k3445 σ x4
noncomputable def m_L_law_L308 (N : Nat) (xs : Nat → Int32) (k3445 : st_T → Int32 → Option (Int32 × st_T)) (σ : st_T) (x4 : Int32) : Option (Int32 × st_T) := if inb (x4 + (1 : Int32)) N then if inb (x4 + (2 : Int32)) N then if inb (x4 + (3 : Int32)) N then if inb (x4 + (4 : Int32)) N then bn2_ (m_X0_field σ (xs (x4 + (1 : Int32)).toNatClampNeg) (xs (x4 + (2 : Int32)).toNatClampNeg) (xs (x4 + (3 : Int32)).toNatClampNeg) (xs (x4 + (4 : Int32)).toNatClampNeg)) fun v1008 σ1009 => if 0 < gN_ σ 100 then if cu_ σ ≤ cu_ σ1009 ∧ su_ σ ≤ su_ σ1009 then ck2_ σ1009 (bn2_ (m_X10_field σ1009 (xs (x4 + (1 : Int32)).toNatClampNeg) (xs (x4 + (2 : Int32)).toNatClampNeg) (xs (x4 + (3 : Int32)).toNatClampNeg) (xs (x4 + (4 : Int32)).toNatClampNeg)) fun v1018 σ1019 => pif_ (kp_ σ1009 σ1019) ((m_X10_thrown σ1019).bind fun v1023 => if v1023 = v1008 then if v1008 = 0 then if (lg_cmp (gO_ σ1019) ((v1018).toInt64)) = 0 then (m_L_law_L397 N xs k3445) σ1019 x4 else some ((0 : Int32), σ1019) else (m_L_law_L397 N xs k3445) σ1019 x4 else some ((0 : Int32), σ1019))) else none else none else none else none else none else none
noncomputable def m_L_law_L305 (N : Nat) (xs : Nat → Int32) (k3445 : st_T → Int32 → Option (Int32 × st_T)) (σ : st_T) (x4 : Int32) : Option (Int32 × st_T) := k3445 σ x4
noncomputable def m_L_law_L240 (N : Nat) (xs : Nat → Int32) (k3445 : st_T → Int32 → Option (Int32 × st_T)) (σ : st_T) (x4 : Int32) : Option (Int32 × st_T) := if inb (x4 + (1 : Int32)) N then if inb (x4 + (2 : Int32)) N then bn2_ (m_X0_land σ (xs (x4 + (1 : Int32)).toNatClampNeg) (xs (x4 + (2 : Int32)).toNatClampNeg)) fun v1031 σ1032 => if 0 < gN_ σ 100 then if cu_ σ ≤ cu_ σ1032 ∧ su_ σ ≤ su_ σ1032 then ck2_ σ1032 (bn2_ (m_X10_land σ1032 (xs (x4 + (1 : Int32)).toNatClampNeg) (xs (x4 + (2 : Int32)).toNatClampNeg)) fun v1041 σ1042 => pif_ (kp_ σ1032 σ1042) ((m_X10_thrown σ1042).bind fun v1046 => if v1046 = v1031 then if v1031 = 0 then if (lg_cmp (gO_ σ1042) ((v1041).toInt64)) = 0 then (m_L_law_L305 N xs k3445) σ1042 x4 else some ((0 : Int32), σ1042) else (m_L_law_L305 N xs k3445) σ1042 x4 else some ((0 : Int32), σ1042))) else none else none else none else none
noncomputable def m_L_law_L23 (N : Nat) (xs : Nat → Int32) : Nat → st_T → Int32 → Option (Int32 × st_T)
  | 0, _, _ => none
  | n + 1, σ, x4 => if ((Int32.ofNat N) - (6 : Int32)) < x4 then some ((1 : Int32), σ) else if inb x4 N then if ((xs x4.toNatClampNeg) &&& (63 : Int32)) = (0 : Int32) then (m_L_law_L240 N xs (m_L_law_L3445 N xs (m_L_law_L23 N xs n))) σ x4 else if ((xs x4.toNatClampNeg) &&& (63 : Int32)) = (1 : Int32) then (m_L_law_L308 N xs (m_L_law_L3445 N xs (m_L_law_L23 N xs n))) σ x4 else if ((xs x4.toNatClampNeg) &&& (63 : Int32)) = (2 : Int32) then (m_L_law_L400 N xs (m_L_law_L3445 N xs (m_L_law_L23 N xs n))) σ x4 else if ((xs x4.toNatClampNeg) &&& (63 : Int32)) = (3 : Int32) then (m_L_law_L456 N xs (m_L_law_L3445 N xs (m_L_law_L23 N xs n))) σ x4 else if ((xs x4.toNatClampNeg) &&& (63 : Int32)) = (4 : Int32) then (m_L_law_L524 N xs (m_L_law_L3445 N xs (m_L_law_L23 N xs n))) σ x4 else if ((xs x4.toNatClampNeg) &&& (63 : Int32)) = (5 : Int32) then (m_L_law_L616 N xs (m_L_law_L3445 N xs (m_L_law_L23 N xs n))) σ x4 else if ((xs x4.toNatClampNeg) &&& (63 : Int32)) = (6 : Int32) then (m_L_law_L684 N xs (m_L_law_L3445 N xs (m_L_law_L23 N xs n))) σ x4 else if ((xs x4.toNatClampNeg) &&& (63 : Int32)) = (7 : Int32) then (m_L_law_L740 N xs (m_L_law_L3445 N xs (m_L_law_L23 N xs n))) σ x4 else if ((xs x4.toNatClampNeg) &&& (63 : Int32)) = (8 : Int32) then (m_L_law_L813 N xs (m_L_law_L3445 N xs (m_L_law_L23 N xs n))) σ x4 else if ((xs x4.toNatClampNeg) &&& (63 : Int32)) = (9 : Int32) then (m_L_law_L869 N xs (m_L_law_L3445 N xs (m_L_law_L23 N xs n))) σ x4 else if ((xs x4.toNatClampNeg) &&& (63 : Int32)) = (10 : Int32) then (m_L_law_L937 N xs (m_L_law_L3445 N xs (m_L_law_L23 N xs n))) σ x4 else if ((xs x4.toNatClampNeg) &&& (63 : Int32)) = (11 : Int32) then (m_L_law_L1017 N xs (m_L_law_L3445 N xs (m_L_law_L23 N xs n))) σ x4 else if ((xs x4.toNatClampNeg) &&& (63 : Int32)) = (12 : Int32) then (m_L_law_L1085 N xs (m_L_law_L3445 N xs (m_L_law_L23 N xs n))) σ x4 else if ((xs x4.toNatClampNeg) &&& (63 : Int32)) = (13 : Int32) then (m_L_law_L1165 N xs (m_L_law_L3445 N xs (m_L_law_L23 N xs n))) σ x4 else if ((xs x4.toNatClampNeg) &&& (63 : Int32)) = (14 : Int32) then (m_L_law_L1233 N xs (m_L_law_L3445 N xs (m_L_law_L23 N xs n))) σ x4 else if ((xs x4.toNatClampNeg) &&& (63 : Int32)) = (15 : Int32) then (m_L_law_L1313 N xs (m_L_law_L3445 N xs (m_L_law_L23 N xs n))) σ x4 else if ((xs x4.toNatClampNeg) &&& (63 : Int32)) = (16 : Int32) then (m_L_law_L1381 N xs (m_L_law_L3445 N xs (m_L_law_L23 N xs n))) σ x4 else if ((xs x4.toNatClampNeg) &&& (63 : Int32)) = (17 : Int32) then (m_L_law_L1394 N xs (m_L_law_L3445 N xs (m_L_law_L23 N xs n))) σ x4 else if ((xs x4.toNatClampNeg) &&& (63 : Int32)) = (18 : Int32) then (m_L_law_L1450 N xs (m_L_law_L3445 N xs (m_L_law_L23 N xs n))) σ x4 else if ((xs x4.toNatClampNeg) &&& (63 : Int32)) = (19 : Int32) then (m_L_law_L1518 N xs (m_L_law_L3445 N xs (m_L_law_L23 N xs n))) σ x4 else if ((xs x4.toNatClampNeg) &&& (63 : Int32)) = (20 : Int32) then (m_L_law_L1543 N xs (m_L_law_L3445 N xs (m_L_law_L23 N xs n))) σ x4 else if ((xs x4.toNatClampNeg) &&& (63 : Int32)) = (21 : Int32) then (m_L_law_L1599 N xs (m_L_law_L3445 N xs (m_L_law_L23 N xs n))) σ x4 else if ((xs x4.toNatClampNeg) &&& (63 : Int32)) = (22 : Int32) then (m_L_law_L1667 N xs (m_L_law_L3445 N xs (m_L_law_L23 N xs n))) σ x4 else if ((xs x4.toNatClampNeg) &&& (63 : Int32)) = (23 : Int32) then (m_L_law_L1751 N xs (m_L_law_L3445 N xs (m_L_law_L23 N xs n))) σ x4 else if ((xs x4.toNatClampNeg) &&& (63 : Int32)) = (24 : Int32) then (m_L_law_L1854 N xs (m_L_law_L3445 N xs (m_L_law_L23 N xs n))) σ x4 else if ((xs x4.toNatClampNeg) &&& (63 : Int32)) = (25 : Int32) then (m_L_law_L1946 N xs (m_L_law_L3445 N xs (m_L_law_L23 N xs n))) σ x4 else if ((xs x4.toNatClampNeg) &&& (63 : Int32)) = (26 : Int32) then (m_L_law_L2014 N xs (m_L_law_L3445 N xs (m_L_law_L23 N xs n))) σ x4 else if ((xs x4.toNatClampNeg) &&& (63 : Int32)) = (27 : Int32) then (m_L_law_L2082 N xs (m_L_law_L3445 N xs (m_L_law_L23 N xs n))) σ x4 else if ((xs x4.toNatClampNeg) &&& (63 : Int32)) = (28 : Int32) then (m_L_law_L2174 N xs (m_L_law_L3445 N xs (m_L_law_L23 N xs n))) σ x4 else if ((xs x4.toNatClampNeg) &&& (63 : Int32)) = (29 : Int32) then (m_L_law_L2230 N xs (m_L_law_L3445 N xs (m_L_law_L23 N xs n))) σ x4 else if ((xs x4.toNatClampNeg) &&& (63 : Int32)) = (30 : Int32) then (m_L_law_L2322 N xs (m_L_law_L3445 N xs (m_L_law_L23 N xs n))) σ x4 else if ((xs x4.toNatClampNeg) &&& (63 : Int32)) = (31 : Int32) then (m_L_law_L2390 N xs (m_L_law_L3445 N xs (m_L_law_L23 N xs n))) σ x4 else if ((xs x4.toNatClampNeg) &&& (63 : Int32)) = (32 : Int32) then (m_L_law_L2470 N xs (m_L_law_L3445 N xs (m_L_law_L23 N xs n))) σ x4 else if ((xs x4.toNatClampNeg) &&& (63 : Int32)) = (33 : Int32) then (m_L_law_L2557 N xs (m_L_law_L3445 N xs (m_L_law_L23 N xs n))) σ x4 else if ((xs x4.toNatClampNeg) &&& (63 : Int32)) = (34 : Int32) then (m_L_law_L2625 N xs (m_L_law_L3445 N xs (m_L_law_L23 N xs n))) σ x4 else if ((xs x4.toNatClampNeg) &&& (63 : Int32)) = (35 : Int32) then (m_L_law_L2705 N xs (m_L_law_L3445 N xs (m_L_law_L23 N xs n))) σ x4 else if ((xs x4.toNatClampNeg) &&& (63 : Int32)) = (36 : Int32) then (m_L_law_L2773 N xs (m_L_law_L3445 N xs (m_L_law_L23 N xs n))) σ x4 else if ((xs x4.toNatClampNeg) &&& (63 : Int32)) = (37 : Int32) then (m_L_law_L2841 N xs (m_L_law_L3445 N xs (m_L_law_L23 N xs n))) σ x4 else if ((xs x4.toNatClampNeg) &&& (63 : Int32)) = (38 : Int32) then (m_L_law_L2897 N xs (m_L_law_L3445 N xs (m_L_law_L23 N xs n))) σ x4 else if ((xs x4.toNatClampNeg) &&& (63 : Int32)) = (39 : Int32) then (m_L_law_L2965 N xs (m_L_law_L3445 N xs (m_L_law_L23 N xs n))) σ x4 else if ((xs x4.toNatClampNeg) &&& (63 : Int32)) = (40 : Int32) then (m_L_law_L3033 N xs (m_L_law_L3445 N xs (m_L_law_L23 N xs n))) σ x4 else if ((xs x4.toNatClampNeg) &&& (63 : Int32)) = (41 : Int32) then (m_L_law_L3113 N xs (m_L_law_L3445 N xs (m_L_law_L23 N xs n))) σ x4 else if ((xs x4.toNatClampNeg) &&& (63 : Int32)) = (42 : Int32) then (m_L_law_L3204 N xs (m_L_law_L3445 N xs (m_L_law_L23 N xs n))) σ x4 else if ((xs x4.toNatClampNeg) &&& (63 : Int32)) = (43 : Int32) then (m_L_law_L3272 N xs (m_L_law_L3445 N xs (m_L_law_L23 N xs n))) σ x4 else if ((xs x4.toNatClampNeg) &&& (63 : Int32)) = (44 : Int32) then (m_L_law_L3340 N xs (m_L_law_L3445 N xs (m_L_law_L23 N xs n))) σ x4 else if ((xs x4.toNatClampNeg) &&& (63 : Int32)) = (45 : Int32) then (m_L_law_L3420 N xs (m_L_law_L3445 N xs (m_L_law_L23 N xs n))) σ x4 else (m_L_law_L3445 N xs (m_L_law_L23 N xs n)) σ x4 else none
set_option maxHeartbeats 40000000 in
theorem law_loop {p : Program} {l : Launch} {e : Env} {s : State} {m : MethodId} {below : List Frame} {meth : Method} {c : Code} {b N : Nat} {xs : Nat → Int32} {g : wg_T} (hgm : gm g = true) (hst : l.stackTraces = false) (hx : p.tables.exec = Jvm.exec) (hb : c.code = code) (hr : meth.sig.returnType = ret) (hml : c.maxLocals = 7) (hlocks : meth.locks = false) (hown : s.vm.findClass "ElephantEdgeLaw" = some m.cls) (hts : ∀ w ∈ lw_all, w.before #[Value.ref b] s = true) (hX : va_X b N xs s s.heap) (hbl : b < s.heap.size) (hbA : ¬ gz g ≤ b) (hsz : s.heap.size ≤ gz g) (L0 : ly_T) (σ0 σ_ : st_T) (r_ : Int32) (hRc : cu_ σ_ - cu_ σ0 ≤ 1200384 ∧ su_ σ_ - su_ σ0 ≤ 5487786) (hr1 : r_ = 1) : ∀ (n23 : Nat), ∀ (L : ly_T) (σ : st_T) (x4 : Int32) (H : Heap) (locs : List Loc) (cells slots : Nat) (ls : Array Slot), lext L0 σ0 L σ → bk σ0 σ cells slots → (cells ≤ 1200384 ∧ slots ≤ 5487786) → wv g L σ s H locs → lv_has ls 7 [(0, .ref b), (1, .ref (L 1 0)), (2, .ref (L 109 0)), (3, .ref (L 100 0)), (4, .int x4)] → (m_L_law_L23 N xs n23) σ x4 = some (r_, σ_) → W p l e (room_1) s m #[Value.ref b] below meth c H locs cells slots (lw_Z below #[Value.ref b] s) (F0 m 23 ls []) := by
  have hL23 : ∀ (n23 : Nat), ∀ (L : ly_T) (σ : st_T) (x4 : Int32) (H : Heap) (locs : List Loc) (cells slots : Nat) (ls : Array Slot), lext L0 σ0 L σ → bk σ0 σ cells slots → (cells ≤ 1200384 ∧ slots ≤ 5487786) → wv g L σ s H locs → lv_has ls 7 [(0, .ref b), (1, .ref (L 1 0)), (2, .ref (L 109 0)), (3, .ref (L 100 0)), (4, .int x4)] → (m_L_law_L23 N xs n23) σ x4 = some (r_, σ_) → W p l e (room_1) s m #[Value.ref b] below meth c H locs cells slots (lw_Z below #[Value.ref b] s) (F0 m 23 ls []) := by
    intro n23
    induction n23 with
    | zero => intro L σ x4 H locs cells slots ls hx0 hcs hrm hW hl hs; rw [m_L_law_L23] at hs; cases hs
    | succ n23 ih23 =>
      have hL3445 : ∀ (L : ly_T) (σ : st_T) (x4 : Int32) (H : Heap) (locs : List Loc) (cells slots : Nat) (ls : Array Slot), lext L0 σ0 L σ → bk σ0 σ cells slots → (cells ≤ 1200384 ∧ slots ≤ 5487786) → wv g L σ s H locs → lv_has ls 7 [(0, .ref b), (1, .ref (L 1 0)), (2, .ref (L 109 0)), (3, .ref (L 100 0)), (4, .int x4)] → (m_L_law_L3445 N xs (m_L_law_L23 N xs n23)) σ x4 = some (r_, σ_) → W p l e (room_1) s m #[Value.ref b] below meth c H locs cells slots (lw_Z below #[Value.ref b] s) (F0 m 3445 ls []) := by
        intro L σ x4 H locs cells slots ls hx0 hcs hrm hW hl hs
        unfold m_L_law_L3445 at hs
        refine lv_iinc (v := (x4 + (6 : Int32))) (lv' := [(4, .int (x4 + (6 : Int32))), (0, .ref b), (1, .ref (L 1 0)), (2, .ref (L 109 0)), (3, .ref (L 100 0))]) hx hb dL_law_3445 hl (k := 4) rfl rfl (by decide) rfl (fun ls hl => ?_)
        refine lv_goto (tgt := 23) hx hb dL_law_3448 (by decide) ?_
        exact ih23 L σ (x4 + (6 : Int32)) _ _ _ _ ls hx0 hcs hrm hW (lv_sub hl [1, 2, 3, 4, 0] rfl) hs
      have hL3420 : ∀ (L : ly_T) (σ : st_T) (x4 : Int32) (H : Heap) (locs : List Loc) (cells slots : Nat) (ls : Array Slot), lext L0 σ0 L σ → bk σ0 σ cells slots → (cells ≤ 1200384 ∧ slots ≤ 5487786) → wv g L σ s H locs → lv_has ls 7 [(0, .ref b), (1, .ref (L 1 0)), (2, .ref (L 109 0)), (3, .ref (L 100 0)), (4, .int x4)] → (m_L_law_L3420 N xs (m_L_law_L3445 N xs (m_L_law_L23 N xs n23))) σ x4 = some (r_, σ_) → W p l e (room_1) s m #[Value.ref b] below meth c H locs cells slots (lw_Z below #[Value.ref b] s) (F0 m 3420 ls []) := by
        intro L σ x4 H locs cells slots ls hx0 hcs hrm hW hl hs
        unfold m_L_law_L3420 at hs
        refine lv_aload_n hx hb dL_law_3420 rfl (lv_at hl 1 rfl) ?_
        refine lv_aload_n hx hb dL_law_3421 rfl (lv_at hl 0 rfl) ?_
        refine lv_iload hx hb dL_law_3422 (lv_at hl 4 rfl) ?_
        refine lv_iconst (v := 1) hx hb dL_law_3424 (by decide) ?_
        refine lv_iadd hx hb dL_law_3425 ?_
        obtain ⟨hc1, hs⟩ := ww_chk hs
        refine va_sld hx hb hX hbl hbA hW.2.2.1 hc1 dL_law_3426 ?_
        obtain ⟨v4, hc2, hs⟩ := ww_bnd hs
        refine ww_ci (va_runV (As := [.int (xs (x4 + (1 : Int32)).toNatClampNeg)]) (rest := []) ⟨hx, hb, hml, hown, hts⟩ (c_X1_count g hgm l L σ (xs (x4 + (1 : Int32)).toNatClampNeg) _ hc2) (cwV 1 hts (lw_V q726 q727 q728 q111 q729) rfl rfl rfl hd_X1_count ⟨(Nat.le_of_ble_eq_true rfl), (Nat.le_of_ble_eq_true rfl)⟩) (ww_preV hW (pr_st (hW.rd hgm) (Nat.le_of_ble_eq_true rfl)) (obv_0 rfl) rfl) rfl rfl hl.1 rfl (lv_room (Nat.le_of_ble_eq_true rfl)) dL_law_3427 hrm) hW (fun H locs hW => ?_)
        refine lv_aload_n hx hb dL_law_3430 rfl (lv_at hl 2 rfl) ?_
        refine lv_aload_n hx hb dL_law_3431 rfl (lv_at hl 0 rfl) ?_
        refine lv_iload hx hb dL_law_3432 (lv_at hl 4 rfl) ?_
        refine lv_iconst (v := 1) hx hb dL_law_3434 (by decide) ?_
        refine lv_iadd hx hb dL_law_3435 ?_
        refine va_sld hx hb hX hbl hbA hW.2.2.1 hc1 dL_law_3436 ?_
        obtain ⟨v7, σ8, hc5, hs⟩ := ww_bn2 hs
        obtain ⟨hkp, hs⟩ := ww_pif hs
        obtain ⟨hx0, hcs⟩ := lx_s hx0 hcs hkp
        refine ww_ci (va_runV (As := [.int (xs (x4 + (1 : Int32)).toNatClampNeg)]) (rest := [.int v4]) ⟨hx, hb, hml, hown, hts⟩ (c_X10_count g hgm l L σ (xs (x4 + (1 : Int32)).toNatClampNeg) _ _ hc5) (cwV 1 hts (lw_V q2504 q2505 q2506 q123 q2507) rfl rfl rfl hd_X10_count ⟨(Nat.le_of_ble_eq_true rfl), (Nat.le_of_ble_eq_true rfl)⟩) (ww_preV hW (pr_st (hW.rd hgm) (Nat.le_of_ble_eq_true rfl)) (obv_0 rfl) rfl) rfl rfl hl.1 rfl (lv_room (Nat.le_of_ble_eq_true rfl)) dL_law_3437 hrm) hW (fun H locs hW => ?_)
        refine lv_icmp_eq (tgt := 3445) hx hb dL_law_3440 (by decide) (fun hc9 => ?_) (fun hc9 => ?_)
        · have hs := ww_T hs hc9
          exact hL3445 L σ8 x4 _ _ _ _ ls hx0 hcs hrm hW (lv_sub hl [0, 1, 2, 3, 4] rfl) hs
        · have hs := ww_F hs hc9
          refine lv_iconst (v := 0) hx hb dL_law_3443 (by decide) ?_
          have hs := ww_S hs
          exact wl_ret hx hb hr hlocks hW hsz hrm (congrArg Prod.fst hs) hr1 dL_law_3444
      have hL3340 : ∀ (L : ly_T) (σ : st_T) (x4 : Int32) (H : Heap) (locs : List Loc) (cells slots : Nat) (ls : Array Slot), lext L0 σ0 L σ → bk σ0 σ cells slots → (cells ≤ 1200384 ∧ slots ≤ 5487786) → wv g L σ s H locs → lv_has ls 7 [(0, .ref b), (1, .ref (L 1 0)), (2, .ref (L 109 0)), (3, .ref (L 100 0)), (4, .int x4)] → (m_L_law_L3340 N xs (m_L_law_L3445 N xs (m_L_law_L23 N xs n23))) σ x4 = some (r_, σ_) → W p l e (room_1) s m #[Value.ref b] below meth c H locs cells slots (lw_Z below #[Value.ref b] s) (F0 m 3340 ls []) := by
        have hL3417 : ∀ (L : ly_T) (σ : st_T) (x4 : Int32) (H : Heap) (locs : List Loc) (cells slots : Nat) (ls : Array Slot), lext L0 σ0 L σ → bk σ0 σ cells slots → (cells ≤ 1200384 ∧ slots ≤ 5487786) → wv g L σ s H locs → lv_has ls 7 [(0, .ref b), (1, .ref (L 1 0)), (2, .ref (L 109 0)), (3, .ref (L 100 0)), (4, .int x4)] → (m_L_law_L3417 N xs (m_L_law_L3445 N xs (m_L_law_L23 N xs n23))) σ x4 = some (r_, σ_) → W p l e (room_1) s m #[Value.ref b] below meth c H locs cells slots (lw_Z below #[Value.ref b] s) (F0 m 3417 ls []) := by
          intro L σ x4 H locs cells slots ls hx0 hcs hrm hW hl hs
          unfold m_L_law_L3417 at hs
          refine lv_goto (tgt := 3445) hx hb dL_law_3417 (by decide) ?_
          exact hL3445 L σ x4 _ _ _ _ ls hx0 hcs hrm hW (lv_sub hl [0, 1, 2, 3, 4] rfl) hs
        intro L σ x4 H locs cells slots ls hx0 hcs hrm hW hl hs
        unfold m_L_law_L3340 at hs
        refine lv_aload_n hx hb dL_law_3340 rfl (lv_at hl 1 rfl) ?_
        refine lv_aload_n hx hb dL_law_3341 rfl (lv_at hl 0 rfl) ?_
        refine lv_iload hx hb dL_law_3342 (lv_at hl 4 rfl) ?_
        refine lv_iconst (v := 1) hx hb dL_law_3344 (by decide) ?_
        refine lv_iadd hx hb dL_law_3345 ?_
        obtain ⟨hc10, hs⟩ := ww_chk hs
        refine va_sld hx hb hX hbl hbA hW.2.2.1 hc10 dL_law_3346 ?_
        refine lv_aload_n hx hb dL_law_3347 rfl (lv_at hl 0 rfl) ?_
        refine lv_iload hx hb dL_law_3348 (lv_at hl 4 rfl) ?_
        refine lv_iconst (v := 2) hx hb dL_law_3350 (by decide) ?_
        refine lv_iadd hx hb dL_law_3351 ?_
        obtain ⟨hc11, hs⟩ := ww_chk hs
        refine va_sld hx hb hX hbl hbA hW.2.2.1 hc11 dL_law_3352 ?_
        refine lv_aload_n hx hb dL_law_3353 rfl (lv_at hl 0 rfl) ?_
        refine lv_iload hx hb dL_law_3354 (lv_at hl 4 rfl) ?_
        refine lv_iconst (v := 3) hx hb dL_law_3356 (by decide) ?_
        refine lv_iadd hx hb dL_law_3357 ?_
        obtain ⟨hc12, hs⟩ := ww_chk hs
        refine va_sld hx hb hX hbl hbA hW.2.2.1 hc12 dL_law_3358 ?_
        refine lv_aload_n hx hb dL_law_3359 rfl (lv_at hl 3 rfl) ?_
        obtain ⟨v15, σ16, hc13, hs⟩ := ww_bn2 hs
        have hp17 : pr σ 1 0 := (pr_st (hW.rd hgm) (Nat.le_of_ble_eq_true rfl))
        have hp18 : pr σ 109 0 := (pr_st (hW.rd hgm) (Nat.le_of_ble_eq_true rfl))
        obtain ⟨hc19, hs⟩ := ww_chk hs
        have hp20 : pr σ 100 0 := (pr_dy hc19 rfl rfl)
        obtain ⟨hc21, hs⟩ := ww_chk hs
        obtain ⟨hs, hck⟩ := ww_ck2 hs
        have hrm1 := le2_ (hcs.roomC hc21 hck) hRc
        refine wa_ci (vx_runSW (As := [.ref (L 1 0), .int (xs (x4 + (1 : Int32)).toNatClampNeg), .int (xs (x4 + (2 : Int32)).toNatClampNeg), .int (xs (x4 + (3 : Int32)).toNatClampNeg), .ref (L 100 0)]) (rest := []) ⟨hx, hb, hml, hown, hts⟩ (c_X0_gap g hgm l L σ (xs (x4 + (1 : Int32)).toNatClampNeg) (xs (x4 + (2 : Int32)).toNatClampNeg) (xs (x4 + (3 : Int32)).toNatClampNeg) hst _ _ hc13) (vx_cwSW 5 hts (lw_SW q1664 q1665 q110 q1666) rfl rfl rfl hd_X0_gap.2 ⟨(Nat.le_of_ble_eq_true rfl), (Nat.le_of_ble_eq_true rfl)⟩) (ww_preS hW) rfl rfl hl.1 rfl (lv_room (Nat.le_of_ble_eq_true rfl)) dL_law_3360 hrm1) hW (fun H locs L hx1 hW => ?_)
        have hc22 : 0 < gN_ σ16 100 := Nat.lt_of_lt_of_le hc19 (hx1.2.1 100)
        have hcs := hcs.call hc21
        have hrm := hrm1
        have hl : lv_has ls 7 [(0, .ref b), (1, .ref (L 1 0)), (2, .ref (L 109 0)), (3, .ref (L 100 0)), (4, .int x4)] := by rw [hx1.at hp17 (by decide), hx1.at hp18 (by decide), hx1.at hp20 (by decide)]; exact hl
        have hx0 := hx0.trans hx1
        refine lv_istore (lv' := [(5, .int v15), (0, .ref b), (1, .ref (L 1 0)), (2, .ref (L 109 0)), (3, .ref (L 100 0)), (4, .int x4)]) hx hb dL_law_3363 hl (by decide) rfl (fun ls hl => ?_)
        refine lv_aload_n hx hb dL_law_3365 rfl (lv_at hl 3 rfl) ?_
        refine lv_aload_n hx hb dL_law_3366 rfl (lv_at hl 1 rfl) ?_
        refine lv_iload hx hb dL_law_3367 (lv_at hl 5 rfl) ?_
        refine lv_iconst (v := 1) hx hb dL_law_3369 (by decide) ?_
        refine lv_iadd hx hb dL_law_3370 ?_
        refine va_sld hx hb hX hbl hbA hW.2.2.1 hc10 dL_law_3371 ?_
        refine lv_aload_n hx hb dL_law_3372 rfl (lv_at hl 1 rfl) ?_
        refine lv_iload hx hb dL_law_3373 (lv_at hl 5 rfl) ?_
        refine lv_iconst (v := 2) hx hb dL_law_3375 (by decide) ?_
        refine lv_iadd hx hb dL_law_3376 ?_
        refine va_sld hx hb hX hbl hbA hW.2.2.1 hc11 dL_law_3377 ?_
        refine lv_aload_n hx hb dL_law_3378 rfl (lv_at hl 1 rfl) ?_
        refine lv_iload hx hb dL_law_3379 (lv_at hl 5 rfl) ?_
        refine lv_iconst (v := 3) hx hb dL_law_3381 (by decide) ?_
        refine lv_iadd hx hb dL_law_3382 ?_
        refine va_sld hx hb hX hbl hbA hW.2.2.1 hc12 dL_law_3383 ?_
        obtain ⟨v25, σ26, hc23, hs⟩ := ww_bn2 hs
        obtain ⟨hkp, hs⟩ := ww_pif hs
        obtain ⟨hx0, hcs⟩ := lx_s hx0 hcs hkp
        refine ww_ci (va_runV (As := [.int (xs (x4 + (1 : Int32)).toNatClampNeg), .int (xs (x4 + (2 : Int32)).toNatClampNeg), .int (xs (x4 + (3 : Int32)).toNatClampNeg)]) (rest := []) ⟨hx, hb, hml, hown, hts⟩ (c_X10_gap g hgm l L σ16 (xs (x4 + (1 : Int32)).toNatClampNeg) (xs (x4 + (2 : Int32)).toNatClampNeg) (xs (x4 + (3 : Int32)).toNatClampNeg) _ _ hc23) (cwV 3 hts (lw_V q2496 q2497 q2498 q123 q2499) rfl rfl rfl hd_X10_gap ⟨(Nat.le_of_ble_eq_true rfl), (Nat.le_of_ble_eq_true rfl)⟩) (ww_preV hW (pr_st (hW.rd hgm) (Nat.le_of_ble_eq_true rfl)) (obv_0 rfl) rfl) rfl rfl hl.1 rfl (lv_room (Nat.le_of_ble_eq_true rfl)) dL_law_3384 hrm) hW (fun H locs hW => ?_)
        have hc27 : 0 < gN_ σ26 100 := by rw [hkp.1]; exact hc22
        refine lv_istore (lv' := [(6, .int v25), (5, .int v15), (0, .ref b), (1, .ref (L 1 0)), (2, .ref (L 109 0)), (3, .ref (L 100 0)), (4, .int x4)]) hx hb dL_law_3387 hl (by decide) rfl (fun ls hl => ?_)
        refine lv_aload_n hx hb dL_law_3389 rfl (lv_at hl 4 rfl) ?_
        obtain ⟨v30, hc28, hs⟩ := ww_bnd hs
        refine ww_ci (va_runV (As := []) (rest := []) ⟨hx, hb, hml, hown, hts⟩ (c_X10_thrown g hgm l L σ26  _ hc28) (cwV 0 hts (lw_V q1671 q1672 q1673 q123 q1674) rfl rfl rfl hd_X10_thrown ⟨(Nat.le_of_ble_eq_true rfl), (Nat.le_of_ble_eq_true rfl)⟩) (ww_preV hW (pr_st (hW.rd hgm) (Nat.le_of_ble_eq_true rfl)) (obv_0 rfl) rfl) rfl rfl hl.1 rfl (lv_room (Nat.le_of_ble_eq_true rfl)) dL_law_3390 hrm) hW (fun H locs hW => ?_)
        refine lv_iload hx hb dL_law_3393 (lv_at hl 1 rfl) ?_
        refine lv_icmp_eq (tgt := 3400) hx hb dL_law_3395 (by decide) (fun hc31 => ?_) (fun hc31 => ?_)
        · have hs := ww_T hs hc31
          refine lv_iload hx hb dL_law_3400 (lv_at hl 1 rfl) ?_
          refine lv_if_ne (tgt := 3417) hx hb dL_law_3402 (by decide) (fun hc32 => ?_) (fun hc32 => ?_)
          · have hs := ww_F hs hc32
            exact hL3417 L σ26 x4 _ _ _ _ ls hx0 hcs hrm hW (lv_sub hl [2, 3, 4, 5, 6] rfl) hs
          · have hs := ww_T hs hc32
            refine lv_aload_n hx hb dL_law_3405 rfl (lv_at hl 5 rfl) ?_
            refine lv_iconst (v := 0) hx hb dL_law_3406 (by decide) ?_
            refine ww_lald hx hb hW (pr_dy hc27 rfl rfl) (j := (0 : Int32)) (vin_lit rfl) dL_law_3407 ?_
            refine lv_iload hx hb dL_law_3408 (lv_at hl 0 rfl) ?_
            refine lv_i2l hx hb dL_law_3410 rfl ?_
            refine W.lcmp hx hb dL_law_3411 ?_
            refine lv_if_eq (tgt := 3417) hx hb dL_law_3412 (by decide) (fun hc33 => ?_) (fun hc33 => ?_)
            · have hs := ww_T hs hc33
              exact hL3417 L σ26 x4 _ _ _ _ ls hx0 hcs hrm hW (lv_sub hl [2, 3, 4, 5, 6] rfl) hs
            · have hs := ww_F hs hc33
              refine lv_iconst (v := 0) hx hb dL_law_3415 (by decide) ?_
              have hs := ww_S hs
              exact wl_ret hx hb hr hlocks hW hsz hrm (congrArg Prod.fst hs) hr1 dL_law_3416
        · have hs := ww_F hs hc31
          refine lv_iconst (v := 0) hx hb dL_law_3398 (by decide) ?_
          have hs := ww_S hs
          exact wl_ret hx hb hr hlocks hW hsz hrm (congrArg Prod.fst hs) hr1 dL_law_3399
      have hL3272 : ∀ (L : ly_T) (σ : st_T) (x4 : Int32) (H : Heap) (locs : List Loc) (cells slots : Nat) (ls : Array Slot), lext L0 σ0 L σ → bk σ0 σ cells slots → (cells ≤ 1200384 ∧ slots ≤ 5487786) → wv g L σ s H locs → lv_has ls 7 [(0, .ref b), (1, .ref (L 1 0)), (2, .ref (L 109 0)), (3, .ref (L 100 0)), (4, .int x4)] → (m_L_law_L3272 N xs (m_L_law_L3445 N xs (m_L_law_L23 N xs n23))) σ x4 = some (r_, σ_) → W p l e (room_1) s m #[Value.ref b] below meth c H locs cells slots (lw_Z below #[Value.ref b] s) (F0 m 3272 ls []) := by
        have hL3337 : ∀ (L : ly_T) (σ : st_T) (x4 : Int32) (H : Heap) (locs : List Loc) (cells slots : Nat) (ls : Array Slot), lext L0 σ0 L σ → bk σ0 σ cells slots → (cells ≤ 1200384 ∧ slots ≤ 5487786) → wv g L σ s H locs → lv_has ls 7 [(0, .ref b), (1, .ref (L 1 0)), (2, .ref (L 109 0)), (3, .ref (L 100 0)), (4, .int x4)] → (m_L_law_L3337 N xs (m_L_law_L3445 N xs (m_L_law_L23 N xs n23))) σ x4 = some (r_, σ_) → W p l e (room_1) s m #[Value.ref b] below meth c H locs cells slots (lw_Z below #[Value.ref b] s) (F0 m 3337 ls []) := by
          intro L σ x4 H locs cells slots ls hx0 hcs hrm hW hl hs
          unfold m_L_law_L3337 at hs
          refine lv_goto (tgt := 3445) hx hb dL_law_3337 (by decide) ?_
          exact hL3445 L σ x4 _ _ _ _ ls hx0 hcs hrm hW (lv_sub hl [0, 1, 2, 3, 4] rfl) hs
        intro L σ x4 H locs cells slots ls hx0 hcs hrm hW hl hs
        unfold m_L_law_L3272 at hs
        refine lv_aload_n hx hb dL_law_3272 rfl (lv_at hl 1 rfl) ?_
        refine lv_aload_n hx hb dL_law_3273 rfl (lv_at hl 0 rfl) ?_
        refine lv_iload hx hb dL_law_3274 (lv_at hl 4 rfl) ?_
        refine lv_iconst (v := 1) hx hb dL_law_3276 (by decide) ?_
        refine lv_iadd hx hb dL_law_3277 ?_
        obtain ⟨hc34, hs⟩ := ww_chk hs
        refine va_sld hx hb hX hbl hbA hW.2.2.1 hc34 dL_law_3278 ?_
        refine lv_aload_n hx hb dL_law_3279 rfl (lv_at hl 0 rfl) ?_
        refine lv_iload hx hb dL_law_3280 (lv_at hl 4 rfl) ?_
        refine lv_iconst (v := 2) hx hb dL_law_3282 (by decide) ?_
        refine lv_iadd hx hb dL_law_3283 ?_
        obtain ⟨hc35, hs⟩ := ww_chk hs
        refine va_sld hx hb hX hbl hbA hW.2.2.1 hc35 dL_law_3284 ?_
        refine lv_aload_n hx hb dL_law_3285 rfl (lv_at hl 3 rfl) ?_
        obtain ⟨v38, σ39, hc36, hs⟩ := ww_bn2 hs
        have hp40 : pr σ 1 0 := (pr_st (hW.rd hgm) (Nat.le_of_ble_eq_true rfl))
        have hp41 : pr σ 109 0 := (pr_st (hW.rd hgm) (Nat.le_of_ble_eq_true rfl))
        obtain ⟨hc42, hs⟩ := ww_chk hs
        have hp43 : pr σ 100 0 := (pr_dy hc42 rfl rfl)
        obtain ⟨hc44, hs⟩ := ww_chk hs
        obtain ⟨hs, hck⟩ := ww_ck2 hs
        have hrm1 := le2_ (hcs.roomC hc44 hck) hRc
        refine wa_ci (vx_runSW (As := [.ref (L 1 0), .int (xs (x4 + (1 : Int32)).toNatClampNeg), .int (xs (x4 + (2 : Int32)).toNatClampNeg), .ref (L 100 0)]) (rest := []) ⟨hx, hb, hml, hown, hts⟩ (c_X0_rents g hgm l L σ (xs (x4 + (1 : Int32)).toNatClampNeg) (xs (x4 + (2 : Int32)).toNatClampNeg) hst _ _ hc36) (vx_cwSW 4 hts (lw_SW q1645 q1646 q110 q1647) rfl rfl rfl hd_X0_rents.2 ⟨(Nat.le_of_ble_eq_true rfl), (Nat.le_of_ble_eq_true rfl)⟩) (ww_preS hW) rfl rfl hl.1 rfl (lv_room (Nat.le_of_ble_eq_true rfl)) dL_law_3286 hrm1) hW (fun H locs L hx1 hW => ?_)
        have hc45 : 0 < gN_ σ39 100 := Nat.lt_of_lt_of_le hc42 (hx1.2.1 100)
        have hcs := hcs.call hc44
        have hrm := hrm1
        have hl : lv_has ls 7 [(0, .ref b), (1, .ref (L 1 0)), (2, .ref (L 109 0)), (3, .ref (L 100 0)), (4, .int x4)] := by rw [hx1.at hp40 (by decide), hx1.at hp41 (by decide), hx1.at hp43 (by decide)]; exact hl
        have hx0 := hx0.trans hx1
        refine lv_istore (lv' := [(5, .int v38), (0, .ref b), (1, .ref (L 1 0)), (2, .ref (L 109 0)), (3, .ref (L 100 0)), (4, .int x4)]) hx hb dL_law_3289 hl (by decide) rfl (fun ls hl => ?_)
        refine lv_aload_n hx hb dL_law_3291 rfl (lv_at hl 3 rfl) ?_
        refine lv_aload_n hx hb dL_law_3292 rfl (lv_at hl 1 rfl) ?_
        refine lv_iload hx hb dL_law_3293 (lv_at hl 5 rfl) ?_
        refine lv_iconst (v := 1) hx hb dL_law_3295 (by decide) ?_
        refine lv_iadd hx hb dL_law_3296 ?_
        refine va_sld hx hb hX hbl hbA hW.2.2.1 hc34 dL_law_3297 ?_
        refine lv_aload_n hx hb dL_law_3298 rfl (lv_at hl 1 rfl) ?_
        refine lv_iload hx hb dL_law_3299 (lv_at hl 5 rfl) ?_
        refine lv_iconst (v := 2) hx hb dL_law_3301 (by decide) ?_
        refine lv_iadd hx hb dL_law_3302 ?_
        refine va_sld hx hb hX hbl hbA hW.2.2.1 hc35 dL_law_3303 ?_
        obtain ⟨v48, σ49, hc46, hs⟩ := ww_bn2 hs
        obtain ⟨hkp, hs⟩ := ww_pif hs
        obtain ⟨hx0, hcs⟩ := lx_s hx0 hcs hkp
        refine ww_ci (va_runV (As := [.int (xs (x4 + (1 : Int32)).toNatClampNeg), .int (xs (x4 + (2 : Int32)).toNatClampNeg)]) (rest := []) ⟨hx, hb, hml, hown, hts⟩ (c_X10_rents g hgm l L σ39 (xs (x4 + (1 : Int32)).toNatClampNeg) (xs (x4 + (2 : Int32)).toNatClampNeg) _ _ hc46) (cwV 2 hts (lw_V q2484 q2485 q2486 q123 q2487) rfl rfl rfl hd_X10_rents ⟨(Nat.le_of_ble_eq_true rfl), (Nat.le_of_ble_eq_true rfl)⟩) (ww_preV hW (pr_st (hW.rd hgm) (Nat.le_of_ble_eq_true rfl)) (obv_0 rfl) rfl) rfl rfl hl.1 rfl (lv_room (Nat.le_of_ble_eq_true rfl)) dL_law_3304 hrm) hW (fun H locs hW => ?_)
        have hc50 : 0 < gN_ σ49 100 := by rw [hkp.1]; exact hc45
        refine lv_istore (lv' := [(6, .int v48), (5, .int v38), (0, .ref b), (1, .ref (L 1 0)), (2, .ref (L 109 0)), (3, .ref (L 100 0)), (4, .int x4)]) hx hb dL_law_3307 hl (by decide) rfl (fun ls hl => ?_)
        refine lv_aload_n hx hb dL_law_3309 rfl (lv_at hl 4 rfl) ?_
        obtain ⟨v53, hc51, hs⟩ := ww_bnd hs
        refine ww_ci (va_runV (As := []) (rest := []) ⟨hx, hb, hml, hown, hts⟩ (c_X10_thrown g hgm l L σ49  _ hc51) (cwV 0 hts (lw_V q1671 q1672 q1673 q123 q1674) rfl rfl rfl hd_X10_thrown ⟨(Nat.le_of_ble_eq_true rfl), (Nat.le_of_ble_eq_true rfl)⟩) (ww_preV hW (pr_st (hW.rd hgm) (Nat.le_of_ble_eq_true rfl)) (obv_0 rfl) rfl) rfl rfl hl.1 rfl (lv_room (Nat.le_of_ble_eq_true rfl)) dL_law_3310 hrm) hW (fun H locs hW => ?_)
        refine lv_iload hx hb dL_law_3313 (lv_at hl 1 rfl) ?_
        refine lv_icmp_eq (tgt := 3320) hx hb dL_law_3315 (by decide) (fun hc54 => ?_) (fun hc54 => ?_)
        · have hs := ww_T hs hc54
          refine lv_iload hx hb dL_law_3320 (lv_at hl 1 rfl) ?_
          refine lv_if_ne (tgt := 3337) hx hb dL_law_3322 (by decide) (fun hc55 => ?_) (fun hc55 => ?_)
          · have hs := ww_F hs hc55
            exact hL3337 L σ49 x4 _ _ _ _ ls hx0 hcs hrm hW (lv_sub hl [2, 3, 4, 5, 6] rfl) hs
          · have hs := ww_T hs hc55
            refine lv_aload_n hx hb dL_law_3325 rfl (lv_at hl 5 rfl) ?_
            refine lv_iconst (v := 0) hx hb dL_law_3326 (by decide) ?_
            refine ww_lald hx hb hW (pr_dy hc50 rfl rfl) (j := (0 : Int32)) (vin_lit rfl) dL_law_3327 ?_
            refine lv_iload hx hb dL_law_3328 (lv_at hl 0 rfl) ?_
            refine lv_i2l hx hb dL_law_3330 rfl ?_
            refine W.lcmp hx hb dL_law_3331 ?_
            refine lv_if_eq (tgt := 3337) hx hb dL_law_3332 (by decide) (fun hc56 => ?_) (fun hc56 => ?_)
            · have hs := ww_T hs hc56
              exact hL3337 L σ49 x4 _ _ _ _ ls hx0 hcs hrm hW (lv_sub hl [2, 3, 4, 5, 6] rfl) hs
            · have hs := ww_F hs hc56
              refine lv_iconst (v := 0) hx hb dL_law_3335 (by decide) ?_
              have hs := ww_S hs
              exact wl_ret hx hb hr hlocks hW hsz hrm (congrArg Prod.fst hs) hr1 dL_law_3336
        · have hs := ww_F hs hc54
          refine lv_iconst (v := 0) hx hb dL_law_3318 (by decide) ?_
          have hs := ww_S hs
          exact wl_ret hx hb hr hlocks hW hsz hrm (congrArg Prod.fst hs) hr1 dL_law_3319
      have hL3204 : ∀ (L : ly_T) (σ : st_T) (x4 : Int32) (H : Heap) (locs : List Loc) (cells slots : Nat) (ls : Array Slot), lext L0 σ0 L σ → bk σ0 σ cells slots → (cells ≤ 1200384 ∧ slots ≤ 5487786) → wv g L σ s H locs → lv_has ls 7 [(0, .ref b), (1, .ref (L 1 0)), (2, .ref (L 109 0)), (3, .ref (L 100 0)), (4, .int x4)] → (m_L_law_L3204 N xs (m_L_law_L3445 N xs (m_L_law_L23 N xs n23))) σ x4 = some (r_, σ_) → W p l e (room_1) s m #[Value.ref b] below meth c H locs cells slots (lw_Z below #[Value.ref b] s) (F0 m 3204 ls []) := by
        have hL3269 : ∀ (L : ly_T) (σ : st_T) (x4 : Int32) (H : Heap) (locs : List Loc) (cells slots : Nat) (ls : Array Slot), lext L0 σ0 L σ → bk σ0 σ cells slots → (cells ≤ 1200384 ∧ slots ≤ 5487786) → wv g L σ s H locs → lv_has ls 7 [(0, .ref b), (1, .ref (L 1 0)), (2, .ref (L 109 0)), (3, .ref (L 100 0)), (4, .int x4)] → (m_L_law_L3269 N xs (m_L_law_L3445 N xs (m_L_law_L23 N xs n23))) σ x4 = some (r_, σ_) → W p l e (room_1) s m #[Value.ref b] below meth c H locs cells slots (lw_Z below #[Value.ref b] s) (F0 m 3269 ls []) := by
          intro L σ x4 H locs cells slots ls hx0 hcs hrm hW hl hs
          unfold m_L_law_L3269 at hs
          refine lv_goto (tgt := 3445) hx hb dL_law_3269 (by decide) ?_
          exact hL3445 L σ x4 _ _ _ _ ls hx0 hcs hrm hW (lv_sub hl [0, 1, 2, 3, 4] rfl) hs
        intro L σ x4 H locs cells slots ls hx0 hcs hrm hW hl hs
        unfold m_L_law_L3204 at hs
        refine lv_aload_n hx hb dL_law_3204 rfl (lv_at hl 1 rfl) ?_
        refine lv_aload_n hx hb dL_law_3205 rfl (lv_at hl 0 rfl) ?_
        refine lv_iload hx hb dL_law_3206 (lv_at hl 4 rfl) ?_
        refine lv_iconst (v := 1) hx hb dL_law_3208 (by decide) ?_
        refine lv_iadd hx hb dL_law_3209 ?_
        obtain ⟨hc57, hs⟩ := ww_chk hs
        refine va_sld hx hb hX hbl hbA hW.2.2.1 hc57 dL_law_3210 ?_
        refine lv_aload_n hx hb dL_law_3211 rfl (lv_at hl 0 rfl) ?_
        refine lv_iload hx hb dL_law_3212 (lv_at hl 4 rfl) ?_
        refine lv_iconst (v := 2) hx hb dL_law_3214 (by decide) ?_
        refine lv_iadd hx hb dL_law_3215 ?_
        obtain ⟨hc58, hs⟩ := ww_chk hs
        refine va_sld hx hb hX hbl hbA hW.2.2.1 hc58 dL_law_3216 ?_
        refine lv_aload_n hx hb dL_law_3217 rfl (lv_at hl 3 rfl) ?_
        obtain ⟨v61, σ62, hc59, hs⟩ := ww_bn2 hs
        have hp63 : pr σ 1 0 := (pr_st (hW.rd hgm) (Nat.le_of_ble_eq_true rfl))
        have hp64 : pr σ 109 0 := (pr_st (hW.rd hgm) (Nat.le_of_ble_eq_true rfl))
        obtain ⟨hc65, hs⟩ := ww_chk hs
        have hp66 : pr σ 100 0 := (pr_dy hc65 rfl rfl)
        obtain ⟨hc67, hs⟩ := ww_chk hs
        obtain ⟨hs, hck⟩ := ww_ck2 hs
        have hrm1 := le2_ (hcs.roomC hc67 hck) hRc
        refine wa_ci (vx_runSW (As := [.ref (L 1 0), .int (xs (x4 + (1 : Int32)).toNatClampNeg), .int (xs (x4 + (2 : Int32)).toNatClampNeg), .ref (L 100 0)]) (rest := []) ⟨hx, hb, hml, hown, hts⟩ (c_X0_rent g hgm l L σ (xs (x4 + (1 : Int32)).toNatClampNeg) (xs (x4 + (2 : Int32)).toNatClampNeg) hst _ _ hc59) (vx_cwSW 4 hts (lw_SW q1638 q1639 q110 q1640) rfl rfl rfl hd_X0_rent.2 ⟨(Nat.le_of_ble_eq_true rfl), (Nat.le_of_ble_eq_true rfl)⟩) (ww_preS hW) rfl rfl hl.1 rfl (lv_room (Nat.le_of_ble_eq_true rfl)) dL_law_3218 hrm1) hW (fun H locs L hx1 hW => ?_)
        have hc68 : 0 < gN_ σ62 100 := Nat.lt_of_lt_of_le hc65 (hx1.2.1 100)
        have hcs := hcs.call hc67
        have hrm := hrm1
        have hl : lv_has ls 7 [(0, .ref b), (1, .ref (L 1 0)), (2, .ref (L 109 0)), (3, .ref (L 100 0)), (4, .int x4)] := by rw [hx1.at hp63 (by decide), hx1.at hp64 (by decide), hx1.at hp66 (by decide)]; exact hl
        have hx0 := hx0.trans hx1
        refine lv_istore (lv' := [(5, .int v61), (0, .ref b), (1, .ref (L 1 0)), (2, .ref (L 109 0)), (3, .ref (L 100 0)), (4, .int x4)]) hx hb dL_law_3221 hl (by decide) rfl (fun ls hl => ?_)
        refine lv_aload_n hx hb dL_law_3223 rfl (lv_at hl 3 rfl) ?_
        refine lv_aload_n hx hb dL_law_3224 rfl (lv_at hl 1 rfl) ?_
        refine lv_iload hx hb dL_law_3225 (lv_at hl 5 rfl) ?_
        refine lv_iconst (v := 1) hx hb dL_law_3227 (by decide) ?_
        refine lv_iadd hx hb dL_law_3228 ?_
        refine va_sld hx hb hX hbl hbA hW.2.2.1 hc57 dL_law_3229 ?_
        refine lv_aload_n hx hb dL_law_3230 rfl (lv_at hl 1 rfl) ?_
        refine lv_iload hx hb dL_law_3231 (lv_at hl 5 rfl) ?_
        refine lv_iconst (v := 2) hx hb dL_law_3233 (by decide) ?_
        refine lv_iadd hx hb dL_law_3234 ?_
        refine va_sld hx hb hX hbl hbA hW.2.2.1 hc58 dL_law_3235 ?_
        obtain ⟨v71, σ72, hc69, hs⟩ := ww_bn2 hs
        obtain ⟨hkp, hs⟩ := ww_pif hs
        obtain ⟨hx0, hcs⟩ := lx_s hx0 hcs hkp
        refine ww_ci (va_runV (As := [.int (xs (x4 + (1 : Int32)).toNatClampNeg), .int (xs (x4 + (2 : Int32)).toNatClampNeg)]) (rest := []) ⟨hx, hb, hml, hown, hts⟩ (c_X10_rent g hgm l L σ62 (xs (x4 + (1 : Int32)).toNatClampNeg) (xs (x4 + (2 : Int32)).toNatClampNeg) _ _ hc69) (cwV 2 hts (lw_V q2480 q2481 q2482 q123 q2483) rfl rfl rfl hd_X10_rent ⟨(Nat.le_of_ble_eq_true rfl), (Nat.le_of_ble_eq_true rfl)⟩) (ww_preV hW (pr_st (hW.rd hgm) (Nat.le_of_ble_eq_true rfl)) (obv_0 rfl) rfl) rfl rfl hl.1 rfl (lv_room (Nat.le_of_ble_eq_true rfl)) dL_law_3236 hrm) hW (fun H locs hW => ?_)
        have hc73 : 0 < gN_ σ72 100 := by rw [hkp.1]; exact hc68
        refine lv_istore (lv' := [(6, .int v71), (5, .int v61), (0, .ref b), (1, .ref (L 1 0)), (2, .ref (L 109 0)), (3, .ref (L 100 0)), (4, .int x4)]) hx hb dL_law_3239 hl (by decide) rfl (fun ls hl => ?_)
        refine lv_aload_n hx hb dL_law_3241 rfl (lv_at hl 4 rfl) ?_
        obtain ⟨v76, hc74, hs⟩ := ww_bnd hs
        refine ww_ci (va_runV (As := []) (rest := []) ⟨hx, hb, hml, hown, hts⟩ (c_X10_thrown g hgm l L σ72  _ hc74) (cwV 0 hts (lw_V q1671 q1672 q1673 q123 q1674) rfl rfl rfl hd_X10_thrown ⟨(Nat.le_of_ble_eq_true rfl), (Nat.le_of_ble_eq_true rfl)⟩) (ww_preV hW (pr_st (hW.rd hgm) (Nat.le_of_ble_eq_true rfl)) (obv_0 rfl) rfl) rfl rfl hl.1 rfl (lv_room (Nat.le_of_ble_eq_true rfl)) dL_law_3242 hrm) hW (fun H locs hW => ?_)
        refine lv_iload hx hb dL_law_3245 (lv_at hl 1 rfl) ?_
        refine lv_icmp_eq (tgt := 3252) hx hb dL_law_3247 (by decide) (fun hc77 => ?_) (fun hc77 => ?_)
        · have hs := ww_T hs hc77
          refine lv_iload hx hb dL_law_3252 (lv_at hl 1 rfl) ?_
          refine lv_if_ne (tgt := 3269) hx hb dL_law_3254 (by decide) (fun hc78 => ?_) (fun hc78 => ?_)
          · have hs := ww_F hs hc78
            exact hL3269 L σ72 x4 _ _ _ _ ls hx0 hcs hrm hW (lv_sub hl [2, 3, 4, 5, 6] rfl) hs
          · have hs := ww_T hs hc78
            refine lv_aload_n hx hb dL_law_3257 rfl (lv_at hl 5 rfl) ?_
            refine lv_iconst (v := 0) hx hb dL_law_3258 (by decide) ?_
            refine ww_lald hx hb hW (pr_dy hc73 rfl rfl) (j := (0 : Int32)) (vin_lit rfl) dL_law_3259 ?_
            refine lv_iload hx hb dL_law_3260 (lv_at hl 0 rfl) ?_
            refine lv_i2l hx hb dL_law_3262 rfl ?_
            refine W.lcmp hx hb dL_law_3263 ?_
            refine lv_if_eq (tgt := 3269) hx hb dL_law_3264 (by decide) (fun hc79 => ?_) (fun hc79 => ?_)
            · have hs := ww_T hs hc79
              exact hL3269 L σ72 x4 _ _ _ _ ls hx0 hcs hrm hW (lv_sub hl [2, 3, 4, 5, 6] rfl) hs
            · have hs := ww_F hs hc79
              refine lv_iconst (v := 0) hx hb dL_law_3267 (by decide) ?_
              have hs := ww_S hs
              exact wl_ret hx hb hr hlocks hW hsz hrm (congrArg Prod.fst hs) hr1 dL_law_3268
        · have hs := ww_F hs hc77
          refine lv_iconst (v := 0) hx hb dL_law_3250 (by decide) ?_
          have hs := ww_S hs
          exact wl_ret hx hb hr hlocks hW hsz hrm (congrArg Prod.fst hs) hr1 dL_law_3251
      have hL3113 : ∀ (L : ly_T) (σ : st_T) (x4 : Int32) (H : Heap) (locs : List Loc) (cells slots : Nat) (ls : Array Slot), lext L0 σ0 L σ → bk σ0 σ cells slots → (cells ≤ 1200384 ∧ slots ≤ 5487786) → wv g L σ s H locs → lv_has ls 7 [(0, .ref b), (1, .ref (L 1 0)), (2, .ref (L 109 0)), (3, .ref (L 100 0)), (4, .int x4)] → (m_L_law_L3113 N xs (m_L_law_L3445 N xs (m_L_law_L23 N xs n23))) σ x4 = some (r_, σ_) → W p l e (room_1) s m #[Value.ref b] below meth c H locs cells slots (lw_Z below #[Value.ref b] s) (F0 m 3113 ls []) := by
        have hL3134 : ∀ (L : ly_T) (σ : st_T) (x4 : Int32) (t1 : Int32) (t2 : Int32) (H : Heap) (locs : List Loc) (cells slots : Nat) (ls : Array Slot), lext L0 σ0 L σ → bk σ0 σ cells slots → (cells ≤ 1200384 ∧ slots ≤ 5487786) → wv g L σ s H locs → lv_has ls 7 [(0, .ref b), (1, .ref (L 1 0)), (2, .ref (L 109 0)), (3, .ref (L 100 0)), (4, .int x4)] → (m_L_law_L3134 N xs (m_L_law_L3445 N xs (m_L_law_L23 N xs n23))) σ x4 t1 t2 = some (r_, σ_) → W p l e (room_1) s m #[Value.ref b] below meth c H locs cells slots (lw_Z below #[Value.ref b] s) (F0 m 3134 ls [.int t2, .int t1, .ref (L 1 0)]) := by
          have hL3161 : ∀ (L : ly_T) (σ : st_T) (x4 : Int32) (x5 : Int32) (t1 : Int32) (t2 : Int32) (H : Heap) (locs : List Loc) (cells slots : Nat) (ls : Array Slot), lext L0 σ0 L σ → bk σ0 σ cells slots → (cells ≤ 1200384 ∧ slots ≤ 5487786) → wv g L σ s H locs → lv_has ls 7 [(0, .ref b), (1, .ref (L 1 0)), (2, .ref (L 109 0)), (3, .ref (L 100 0)), (4, .int x4), (5, .int x5)] → (m_L_law_L3161 N xs (m_L_law_L3445 N xs (m_L_law_L23 N xs n23))) σ x4 x5 t1 t2 = some (r_, σ_) → W p l e (room_1) s m #[Value.ref b] below meth c H locs cells slots (lw_Z below #[Value.ref b] s) (F0 m 3161 ls [.int t2, .int t1, .ref (L 109 0)]) := by
            have hL3201 : ∀ (L : ly_T) (σ : st_T) (x4 : Int32) (H : Heap) (locs : List Loc) (cells slots : Nat) (ls : Array Slot), lext L0 σ0 L σ → bk σ0 σ cells slots → (cells ≤ 1200384 ∧ slots ≤ 5487786) → wv g L σ s H locs → lv_has ls 7 [(0, .ref b), (1, .ref (L 1 0)), (2, .ref (L 109 0)), (3, .ref (L 100 0)), (4, .int x4)] → (m_L_law_L3201 N xs (m_L_law_L3445 N xs (m_L_law_L23 N xs n23))) σ x4 = some (r_, σ_) → W p l e (room_1) s m #[Value.ref b] below meth c H locs cells slots (lw_Z below #[Value.ref b] s) (F0 m 3201 ls []) := by
              intro L σ x4 H locs cells slots ls hx0 hcs hrm hW hl hs
              unfold m_L_law_L3201 at hs
              refine lv_goto (tgt := 3445) hx hb dL_law_3201 (by decide) ?_
              exact hL3445 L σ x4 _ _ _ _ ls hx0 hcs hrm hW (lv_sub hl [0, 1, 2, 3, 4] rfl) hs
            have hL3195 : ∀ (L : ly_T) (σ : st_T) (x4 : Int32) (t0 : Int64) (t1 : Int64) (H : Heap) (locs : List Loc) (cells slots : Nat) (ls : Array Slot), lext L0 σ0 L σ → bk σ0 σ cells slots → (cells ≤ 1200384 ∧ slots ≤ 5487786) → wv g L σ s H locs → lv_has ls 7 [(0, .ref b), (1, .ref (L 1 0)), (2, .ref (L 109 0)), (3, .ref (L 100 0)), (4, .int x4)] → (m_L_law_L3195 N xs (m_L_law_L3201 N xs (m_L_law_L3445 N xs (m_L_law_L23 N xs n23)))) σ x4 t0 t1 = some (r_, σ_) → W p l e (room_1) s m #[Value.ref b] below meth c H locs cells slots (lw_Z below #[Value.ref b] s) (F0 m 3195 ls [.long t1, .long t0]) := by
              intro L σ x4 t0 t1 H locs cells slots ls hx0 hcs hrm hW hl hs
              unfold m_L_law_L3195 at hs
              refine W.lcmp hx hb dL_law_3195 ?_
              refine lv_if_eq (tgt := 3201) hx hb dL_law_3196 (by decide) (fun hc80 => ?_) (fun hc80 => ?_)
              · have hs := ww_T hs hc80
                exact hL3201 L σ x4 _ _ _ _ ls hx0 hcs hrm hW (lv_sub hl [0, 1, 2, 3, 4] rfl) hs
              · have hs := ww_F hs hc80
                refine lv_iconst (v := 0) hx hb dL_law_3199 (by decide) ?_
                have hs := ww_S hs
                exact wl_ret hx hb hr hlocks hW hsz hrm (congrArg Prod.fst hs) hr1 dL_law_3200
            intro L σ x4 x5 t1 t2 H locs cells slots ls hx0 hcs hrm hW hl hs
            unfold m_L_law_L3161 at hs
            obtain ⟨v83, σ84, hc81, hs⟩ := ww_bn2 hs
            obtain ⟨hkp, hs⟩ := ww_pif hs
            obtain ⟨hx0, hcs⟩ := lx_s hx0 hcs hkp
            refine ww_ci (va_runV (As := [.int t1, .int t2]) (rest := []) ⟨hx, hb, hml, hown, hts⟩ (c_X10_lease g hgm l L σ t1 t2 _ _ hc81) (cwV 2 hts (lw_V q2476 q2477 q2478 q123 q2479) rfl rfl rfl hd_X10_lease ⟨(Nat.le_of_ble_eq_true rfl), (Nat.le_of_ble_eq_true rfl)⟩) (ww_preV hW (pr_st (hW.rd hgm) (Nat.le_of_ble_eq_true rfl)) (obv_0 rfl) rfl) rfl rfl hl.1 rfl (lv_room (Nat.le_of_ble_eq_true rfl)) dL_law_3161 hrm) hW (fun H locs hW => ?_)
            refine lv_istore (lv' := [(6, .int v83), (0, .ref b), (1, .ref (L 1 0)), (2, .ref (L 109 0)), (3, .ref (L 100 0)), (4, .int x4), (5, .int x5)]) hx hb dL_law_3164 hl (by decide) rfl (fun ls hl => ?_)
            refine lv_aload_n hx hb dL_law_3166 rfl (lv_at hl 3 rfl) ?_
            obtain ⟨v87, hc85, hs⟩ := ww_bnd hs
            refine ww_ci (va_runV (As := []) (rest := []) ⟨hx, hb, hml, hown, hts⟩ (c_X10_thrown g hgm l L σ84  _ hc85) (cwV 0 hts (lw_V q1671 q1672 q1673 q123 q1674) rfl rfl rfl hd_X10_thrown ⟨(Nat.le_of_ble_eq_true rfl), (Nat.le_of_ble_eq_true rfl)⟩) (ww_preV hW (pr_st (hW.rd hgm) (Nat.le_of_ble_eq_true rfl)) (obv_0 rfl) rfl) rfl rfl hl.1 rfl (lv_room (Nat.le_of_ble_eq_true rfl)) dL_law_3167 hrm) hW (fun H locs hW => ?_)
            refine lv_iload hx hb dL_law_3170 (lv_at hl 6 rfl) ?_
            refine lv_icmp_eq (tgt := 3177) hx hb dL_law_3172 (by decide) (fun hc88 => ?_) (fun hc88 => ?_)
            · have hs := ww_T hs hc88
              refine lv_iload hx hb dL_law_3177 (lv_at hl 6 rfl) ?_
              refine lv_if_ne (tgt := 3201) hx hb dL_law_3179 (by decide) (fun hc89 => ?_) (fun hc89 => ?_)
              · have hs := ww_F hs hc89
                exact hL3201 L σ84 x4 _ _ _ _ ls hx0 hcs hrm hW (lv_sub hl [1, 2, 3, 4, 5] rfl) hs
              · have hs := ww_T hs hc89
                refine lv_aload_n hx hb dL_law_3182 rfl (lv_at hl 4 rfl) ?_
                refine lv_iconst (v := 0) hx hb dL_law_3183 (by decide) ?_
                obtain ⟨hc90, hs⟩ := ww_chk hs
                refine ww_lald hx hb hW (pr_dy hc90 rfl rfl) (j := (0 : Int32)) (vin_lit rfl) dL_law_3184 ?_
                refine lv_iload hx hb dL_law_3185 (lv_at hl 0 rfl) ?_
                refine lv_if_eq (tgt := 3194) hx hb dL_law_3187 (by decide) (fun hc91 => ?_) (fun hc91 => ?_)
                · have hs := ww_T hs hc91
                  refine lv_lconst (v := 0) hx hb dL_law_3194 (by decide) ?_
                  exact hL3195 L σ84 x4 (gO_ σ84) (0 : Int64) _ _ _ _ ls hx0 hcs hrm hW (lv_sub hl [1, 2, 3, 4, 5] rfl) hs
                · have hs := ww_F hs hc91
                  refine lv_lconst (v := 1) hx hb dL_law_3190 (by decide) ?_
                  refine lv_goto (tgt := 3195) hx hb dL_law_3191 (by decide) ?_
                  exact hL3195 L σ84 x4 (gO_ σ84) (1 : Int64) _ _ _ _ ls hx0 hcs hrm hW (lv_sub hl [1, 2, 3, 4, 5] rfl) hs
            · have hs := ww_F hs hc88
              refine lv_iconst (v := 0) hx hb dL_law_3175 (by decide) ?_
              have hs := ww_S hs
              exact wl_ret hx hb hr hlocks hW hsz hrm (congrArg Prod.fst hs) hr1 dL_law_3176
          intro L σ x4 t1 t2 H locs cells slots ls hx0 hcs hrm hW hl hs
          unfold m_L_law_L3134 at hs
          refine lv_aload_n hx hb dL_law_3134 rfl (lv_at hl 3 rfl) ?_
          obtain ⟨v94, σ95, hc92, hs⟩ := ww_bn2 hs
          have hp96 : pr σ 1 0 := (pr_st (hW.rd hgm) (Nat.le_of_ble_eq_true rfl))
          have hp97 : pr σ 109 0 := (pr_st (hW.rd hgm) (Nat.le_of_ble_eq_true rfl))
          obtain ⟨hc98, hs⟩ := ww_chk hs
          have hp99 : pr σ 100 0 := (pr_dy hc98 rfl rfl)
          obtain ⟨hc100, hs⟩ := ww_chk hs
          obtain ⟨hs, hck⟩ := ww_ck2 hs
          have hrm1 := le2_ (hcs.roomC hc100 hck) hRc
          refine wa_ci (vx_runSW (As := [.ref (L 1 0), .int t1, .int t2, .ref (L 100 0)]) (rest := []) ⟨hx, hb, hml, hown, hts⟩ (c_X0_lease g hgm l L σ t1 t2 hst _ _ hc92) (vx_cwSW 4 hts (lw_SW q1631 q1632 q110 q1633) rfl rfl rfl hd_X0_lease.2 ⟨(Nat.le_of_ble_eq_true rfl), (Nat.le_of_ble_eq_true rfl)⟩) (ww_preS hW) rfl rfl hl.1 rfl (lv_room (Nat.le_of_ble_eq_true rfl)) dL_law_3135 hrm1) hW (fun H locs L hx1 hW => ?_)
          have hc101 : 0 < gN_ σ95 100 := Nat.lt_of_lt_of_le hc98 (hx1.2.1 100)
          have hcs := hcs.call hc100
          have hrm := hrm1
          have hl : lv_has ls 7 [(0, .ref b), (1, .ref (L 1 0)), (2, .ref (L 109 0)), (3, .ref (L 100 0)), (4, .int x4)] := by rw [hx1.at hp96 (by decide), hx1.at hp97 (by decide), hx1.at hp99 (by decide)]; exact hl
          have hx0 := hx0.trans hx1
          refine lv_istore (lv' := [(5, .int v94), (0, .ref b), (1, .ref (L 1 0)), (2, .ref (L 109 0)), (3, .ref (L 100 0)), (4, .int x4)]) hx hb dL_law_3138 hl (by decide) rfl (fun ls hl => ?_)
          refine lv_aload_n hx hb dL_law_3140 rfl (lv_at hl 3 rfl) ?_
          refine lv_aload_n hx hb dL_law_3141 rfl (lv_at hl 1 rfl) ?_
          refine lv_iload hx hb dL_law_3142 (lv_at hl 5 rfl) ?_
          refine lv_iconst (v := 1) hx hb dL_law_3144 (by decide) ?_
          refine lv_iadd hx hb dL_law_3145 ?_
          obtain ⟨hc102, hs⟩ := ww_chk hs
          refine va_sld hx hb hX hbl hbA hW.2.2.1 hc102 dL_law_3146 ?_
          refine lv_aload_n hx hb dL_law_3147 rfl (lv_at hl 1 rfl) ?_
          refine lv_iload hx hb dL_law_3148 (lv_at hl 5 rfl) ?_
          refine lv_iconst (v := 2) hx hb dL_law_3150 (by decide) ?_
          refine lv_iadd hx hb dL_law_3151 ?_
          obtain ⟨hc103, hs⟩ := ww_chk hs
          refine va_sld hx hb hX hbl hbA hW.2.2.1 hc103 dL_law_3152 ?_
          refine lv_if_eq (tgt := 3160) hx hb dL_law_3153 (by decide) (fun hc104 => ?_) (fun hc104 => ?_)
          · have hs := ww_T hs hc104
            refine lv_iconst (v := 0) hx hb dL_law_3160 (by decide) ?_
            exact hL3161 L σ95 x4 v94 (xs (x4 + (1 : Int32)).toNatClampNeg) (0 : Int32) _ _ _ _ ls hx0 hcs hrm hW (lv_sub hl [1, 2, 3, 4, 5, 0] rfl) hs
          · have hs := ww_F hs hc104
            refine lv_iconst (v := 1) hx hb dL_law_3156 (by decide) ?_
            refine lv_goto (tgt := 3161) hx hb dL_law_3157 (by decide) ?_
            exact hL3161 L σ95 x4 v94 (xs (x4 + (1 : Int32)).toNatClampNeg) (1 : Int32) _ _ _ _ ls hx0 hcs hrm hW (lv_sub hl [1, 2, 3, 4, 5, 0] rfl) hs
        intro L σ x4 H locs cells slots ls hx0 hcs hrm hW hl hs
        unfold m_L_law_L3113 at hs
        refine lv_aload_n hx hb dL_law_3113 rfl (lv_at hl 1 rfl) ?_
        refine lv_aload_n hx hb dL_law_3114 rfl (lv_at hl 0 rfl) ?_
        refine lv_iload hx hb dL_law_3115 (lv_at hl 4 rfl) ?_
        refine lv_iconst (v := 1) hx hb dL_law_3117 (by decide) ?_
        refine lv_iadd hx hb dL_law_3118 ?_
        obtain ⟨hc105, hs⟩ := ww_chk hs
        refine va_sld hx hb hX hbl hbA hW.2.2.1 hc105 dL_law_3119 ?_
        refine lv_aload_n hx hb dL_law_3120 rfl (lv_at hl 0 rfl) ?_
        refine lv_iload hx hb dL_law_3121 (lv_at hl 4 rfl) ?_
        refine lv_iconst (v := 2) hx hb dL_law_3123 (by decide) ?_
        refine lv_iadd hx hb dL_law_3124 ?_
        obtain ⟨hc106, hs⟩ := ww_chk hs
        refine va_sld hx hb hX hbl hbA hW.2.2.1 hc106 dL_law_3125 ?_
        refine lv_if_eq (tgt := 3133) hx hb dL_law_3126 (by decide) (fun hc107 => ?_) (fun hc107 => ?_)
        · have hs := ww_T hs hc107
          refine lv_iconst (v := 0) hx hb dL_law_3133 (by decide) ?_
          exact hL3134 L σ x4 (xs (x4 + (1 : Int32)).toNatClampNeg) (0 : Int32) _ _ _ _ ls hx0 hcs hrm hW (lv_sub hl [0, 1, 2, 3, 4] rfl) hs
        · have hs := ww_F hs hc107
          refine lv_iconst (v := 1) hx hb dL_law_3129 (by decide) ?_
          refine lv_goto (tgt := 3134) hx hb dL_law_3130 (by decide) ?_
          exact hL3134 L σ x4 (xs (x4 + (1 : Int32)).toNatClampNeg) (1 : Int32) _ _ _ _ ls hx0 hcs hrm hW (lv_sub hl [0, 1, 2, 3, 4] rfl) hs
      have hL3033 : ∀ (L : ly_T) (σ : st_T) (x4 : Int32) (H : Heap) (locs : List Loc) (cells slots : Nat) (ls : Array Slot), lext L0 σ0 L σ → bk σ0 σ cells slots → (cells ≤ 1200384 ∧ slots ≤ 5487786) → wv g L σ s H locs → lv_has ls 7 [(0, .ref b), (1, .ref (L 1 0)), (2, .ref (L 109 0)), (3, .ref (L 100 0)), (4, .int x4)] → (m_L_law_L3033 N xs (m_L_law_L3445 N xs (m_L_law_L23 N xs n23))) σ x4 = some (r_, σ_) → W p l e (room_1) s m #[Value.ref b] below meth c H locs cells slots (lw_Z below #[Value.ref b] s) (F0 m 3033 ls []) := by
        have hL3110 : ∀ (L : ly_T) (σ : st_T) (x4 : Int32) (H : Heap) (locs : List Loc) (cells slots : Nat) (ls : Array Slot), lext L0 σ0 L σ → bk σ0 σ cells slots → (cells ≤ 1200384 ∧ slots ≤ 5487786) → wv g L σ s H locs → lv_has ls 7 [(0, .ref b), (1, .ref (L 1 0)), (2, .ref (L 109 0)), (3, .ref (L 100 0)), (4, .int x4)] → (m_L_law_L3110 N xs (m_L_law_L3445 N xs (m_L_law_L23 N xs n23))) σ x4 = some (r_, σ_) → W p l e (room_1) s m #[Value.ref b] below meth c H locs cells slots (lw_Z below #[Value.ref b] s) (F0 m 3110 ls []) := by
          intro L σ x4 H locs cells slots ls hx0 hcs hrm hW hl hs
          unfold m_L_law_L3110 at hs
          refine lv_goto (tgt := 3445) hx hb dL_law_3110 (by decide) ?_
          exact hL3445 L σ x4 _ _ _ _ ls hx0 hcs hrm hW (lv_sub hl [0, 1, 2, 3, 4] rfl) hs
        intro L σ x4 H locs cells slots ls hx0 hcs hrm hW hl hs
        unfold m_L_law_L3033 at hs
        refine lv_aload_n hx hb dL_law_3033 rfl (lv_at hl 1 rfl) ?_
        refine lv_aload_n hx hb dL_law_3034 rfl (lv_at hl 0 rfl) ?_
        refine lv_iload hx hb dL_law_3035 (lv_at hl 4 rfl) ?_
        refine lv_iconst (v := 1) hx hb dL_law_3037 (by decide) ?_
        refine lv_iadd hx hb dL_law_3038 ?_
        obtain ⟨hc108, hs⟩ := ww_chk hs
        refine va_sld hx hb hX hbl hbA hW.2.2.1 hc108 dL_law_3039 ?_
        refine lv_aload_n hx hb dL_law_3040 rfl (lv_at hl 0 rfl) ?_
        refine lv_iload hx hb dL_law_3041 (lv_at hl 4 rfl) ?_
        refine lv_iconst (v := 2) hx hb dL_law_3043 (by decide) ?_
        refine lv_iadd hx hb dL_law_3044 ?_
        obtain ⟨hc109, hs⟩ := ww_chk hs
        refine va_sld hx hb hX hbl hbA hW.2.2.1 hc109 dL_law_3045 ?_
        refine lv_aload_n hx hb dL_law_3046 rfl (lv_at hl 0 rfl) ?_
        refine lv_iload hx hb dL_law_3047 (lv_at hl 4 rfl) ?_
        refine lv_iconst (v := 3) hx hb dL_law_3049 (by decide) ?_
        refine lv_iadd hx hb dL_law_3050 ?_
        obtain ⟨hc110, hs⟩ := ww_chk hs
        refine va_sld hx hb hX hbl hbA hW.2.2.1 hc110 dL_law_3051 ?_
        refine lv_aload_n hx hb dL_law_3052 rfl (lv_at hl 3 rfl) ?_
        obtain ⟨v113, σ114, hc111, hs⟩ := ww_bn2 hs
        have hp115 : pr σ 1 0 := (pr_st (hW.rd hgm) (Nat.le_of_ble_eq_true rfl))
        have hp116 : pr σ 109 0 := (pr_st (hW.rd hgm) (Nat.le_of_ble_eq_true rfl))
        obtain ⟨hc117, hs⟩ := ww_chk hs
        have hp118 : pr σ 100 0 := (pr_dy hc117 rfl rfl)
        obtain ⟨hc119, hs⟩ := ww_chk hs
        obtain ⟨hs, hck⟩ := ww_ck2 hs
        have hrm1 := le2_ (hcs.roomC hc119 hck) hRc
        refine wa_ci (vx_runSW (As := [.ref (L 1 0), .int (xs (x4 + (1 : Int32)).toNatClampNeg), .int (xs (x4 + (2 : Int32)).toNatClampNeg), .int (xs (x4 + (3 : Int32)).toNatClampNeg), .ref (L 100 0)]) (rest := []) ⟨hx, hb, hml, hown, hts⟩ (c_X0_dusk g hgm l L σ (xs (x4 + (1 : Int32)).toNatClampNeg) (xs (x4 + (2 : Int32)).toNatClampNeg) (xs (x4 + (3 : Int32)).toNatClampNeg) hst _ _ hc111) (vx_cwSW 5 hts (lw_SW q1624 q1625 q110 q1626) rfl rfl rfl hd_X0_dusk.2 ⟨(Nat.le_of_ble_eq_true rfl), (Nat.le_of_ble_eq_true rfl)⟩) (ww_preS hW) rfl rfl hl.1 rfl (lv_room (Nat.le_of_ble_eq_true rfl)) dL_law_3053 hrm1) hW (fun H locs L hx1 hW => ?_)
        have hc120 : 0 < gN_ σ114 100 := Nat.lt_of_lt_of_le hc117 (hx1.2.1 100)
        have hcs := hcs.call hc119
        have hrm := hrm1
        have hl : lv_has ls 7 [(0, .ref b), (1, .ref (L 1 0)), (2, .ref (L 109 0)), (3, .ref (L 100 0)), (4, .int x4)] := by rw [hx1.at hp115 (by decide), hx1.at hp116 (by decide), hx1.at hp118 (by decide)]; exact hl
        have hx0 := hx0.trans hx1
        refine lv_istore (lv' := [(5, .int v113), (0, .ref b), (1, .ref (L 1 0)), (2, .ref (L 109 0)), (3, .ref (L 100 0)), (4, .int x4)]) hx hb dL_law_3056 hl (by decide) rfl (fun ls hl => ?_)
        refine lv_aload_n hx hb dL_law_3058 rfl (lv_at hl 3 rfl) ?_
        refine lv_aload_n hx hb dL_law_3059 rfl (lv_at hl 1 rfl) ?_
        refine lv_iload hx hb dL_law_3060 (lv_at hl 5 rfl) ?_
        refine lv_iconst (v := 1) hx hb dL_law_3062 (by decide) ?_
        refine lv_iadd hx hb dL_law_3063 ?_
        refine va_sld hx hb hX hbl hbA hW.2.2.1 hc108 dL_law_3064 ?_
        refine lv_aload_n hx hb dL_law_3065 rfl (lv_at hl 1 rfl) ?_
        refine lv_iload hx hb dL_law_3066 (lv_at hl 5 rfl) ?_
        refine lv_iconst (v := 2) hx hb dL_law_3068 (by decide) ?_
        refine lv_iadd hx hb dL_law_3069 ?_
        refine va_sld hx hb hX hbl hbA hW.2.2.1 hc109 dL_law_3070 ?_
        refine lv_aload_n hx hb dL_law_3071 rfl (lv_at hl 1 rfl) ?_
        refine lv_iload hx hb dL_law_3072 (lv_at hl 5 rfl) ?_
        refine lv_iconst (v := 3) hx hb dL_law_3074 (by decide) ?_
        refine lv_iadd hx hb dL_law_3075 ?_
        refine va_sld hx hb hX hbl hbA hW.2.2.1 hc110 dL_law_3076 ?_
        obtain ⟨v123, σ124, hc121, hs⟩ := ww_bn2 hs
        obtain ⟨hkp, hs⟩ := ww_pif hs
        obtain ⟨hx0, hcs⟩ := lx_s hx0 hcs hkp
        refine ww_ci (va_runV (As := [.int (xs (x4 + (1 : Int32)).toNatClampNeg), .int (xs (x4 + (2 : Int32)).toNatClampNeg), .int (xs (x4 + (3 : Int32)).toNatClampNeg)]) (rest := []) ⟨hx, hb, hml, hown, hts⟩ (c_X10_dusk g hgm l L σ114 (xs (x4 + (1 : Int32)).toNatClampNeg) (xs (x4 + (2 : Int32)).toNatClampNeg) (xs (x4 + (3 : Int32)).toNatClampNeg) _ _ hc121) (cwV 3 hts (lw_V q2472 q2473 q2474 q123 q2475) rfl rfl rfl hd_X10_dusk ⟨(Nat.le_of_ble_eq_true rfl), (Nat.le_of_ble_eq_true rfl)⟩) (ww_preV hW (pr_st (hW.rd hgm) (Nat.le_of_ble_eq_true rfl)) (obv_0 rfl) rfl) rfl rfl hl.1 rfl (lv_room (Nat.le_of_ble_eq_true rfl)) dL_law_3077 hrm) hW (fun H locs hW => ?_)
        have hc125 : 0 < gN_ σ124 100 := by rw [hkp.1]; exact hc120
        refine lv_istore (lv' := [(6, .int v123), (5, .int v113), (0, .ref b), (1, .ref (L 1 0)), (2, .ref (L 109 0)), (3, .ref (L 100 0)), (4, .int x4)]) hx hb dL_law_3080 hl (by decide) rfl (fun ls hl => ?_)
        refine lv_aload_n hx hb dL_law_3082 rfl (lv_at hl 4 rfl) ?_
        obtain ⟨v128, hc126, hs⟩ := ww_bnd hs
        refine ww_ci (va_runV (As := []) (rest := []) ⟨hx, hb, hml, hown, hts⟩ (c_X10_thrown g hgm l L σ124  _ hc126) (cwV 0 hts (lw_V q1671 q1672 q1673 q123 q1674) rfl rfl rfl hd_X10_thrown ⟨(Nat.le_of_ble_eq_true rfl), (Nat.le_of_ble_eq_true rfl)⟩) (ww_preV hW (pr_st (hW.rd hgm) (Nat.le_of_ble_eq_true rfl)) (obv_0 rfl) rfl) rfl rfl hl.1 rfl (lv_room (Nat.le_of_ble_eq_true rfl)) dL_law_3083 hrm) hW (fun H locs hW => ?_)
        refine lv_iload hx hb dL_law_3086 (lv_at hl 1 rfl) ?_
        refine lv_icmp_eq (tgt := 3093) hx hb dL_law_3088 (by decide) (fun hc129 => ?_) (fun hc129 => ?_)
        · have hs := ww_T hs hc129
          refine lv_iload hx hb dL_law_3093 (lv_at hl 1 rfl) ?_
          refine lv_if_ne (tgt := 3110) hx hb dL_law_3095 (by decide) (fun hc130 => ?_) (fun hc130 => ?_)
          · have hs := ww_F hs hc130
            exact hL3110 L σ124 x4 _ _ _ _ ls hx0 hcs hrm hW (lv_sub hl [2, 3, 4, 5, 6] rfl) hs
          · have hs := ww_T hs hc130
            refine lv_aload_n hx hb dL_law_3098 rfl (lv_at hl 5 rfl) ?_
            refine lv_iconst (v := 0) hx hb dL_law_3099 (by decide) ?_
            refine ww_lald hx hb hW (pr_dy hc125 rfl rfl) (j := (0 : Int32)) (vin_lit rfl) dL_law_3100 ?_
            refine lv_iload hx hb dL_law_3101 (lv_at hl 0 rfl) ?_
            refine lv_i2l hx hb dL_law_3103 rfl ?_
            refine W.lcmp hx hb dL_law_3104 ?_
            refine lv_if_eq (tgt := 3110) hx hb dL_law_3105 (by decide) (fun hc131 => ?_) (fun hc131 => ?_)
            · have hs := ww_T hs hc131
              exact hL3110 L σ124 x4 _ _ _ _ ls hx0 hcs hrm hW (lv_sub hl [2, 3, 4, 5, 6] rfl) hs
            · have hs := ww_F hs hc131
              refine lv_iconst (v := 0) hx hb dL_law_3108 (by decide) ?_
              have hs := ww_S hs
              exact wl_ret hx hb hr hlocks hW hsz hrm (congrArg Prod.fst hs) hr1 dL_law_3109
        · have hs := ww_F hs hc129
          refine lv_iconst (v := 0) hx hb dL_law_3091 (by decide) ?_
          have hs := ww_S hs
          exact wl_ret hx hb hr hlocks hW hsz hrm (congrArg Prod.fst hs) hr1 dL_law_3092
      have hL2965 : ∀ (L : ly_T) (σ : st_T) (x4 : Int32) (H : Heap) (locs : List Loc) (cells slots : Nat) (ls : Array Slot), lext L0 σ0 L σ → bk σ0 σ cells slots → (cells ≤ 1200384 ∧ slots ≤ 5487786) → wv g L σ s H locs → lv_has ls 7 [(0, .ref b), (1, .ref (L 1 0)), (2, .ref (L 109 0)), (3, .ref (L 100 0)), (4, .int x4)] → (m_L_law_L2965 N xs (m_L_law_L3445 N xs (m_L_law_L23 N xs n23))) σ x4 = some (r_, σ_) → W p l e (room_1) s m #[Value.ref b] below meth c H locs cells slots (lw_Z below #[Value.ref b] s) (F0 m 2965 ls []) := by
        have hL3030 : ∀ (L : ly_T) (σ : st_T) (x4 : Int32) (H : Heap) (locs : List Loc) (cells slots : Nat) (ls : Array Slot), lext L0 σ0 L σ → bk σ0 σ cells slots → (cells ≤ 1200384 ∧ slots ≤ 5487786) → wv g L σ s H locs → lv_has ls 7 [(0, .ref b), (1, .ref (L 1 0)), (2, .ref (L 109 0)), (3, .ref (L 100 0)), (4, .int x4)] → (m_L_law_L3030 N xs (m_L_law_L3445 N xs (m_L_law_L23 N xs n23))) σ x4 = some (r_, σ_) → W p l e (room_1) s m #[Value.ref b] below meth c H locs cells slots (lw_Z below #[Value.ref b] s) (F0 m 3030 ls []) := by
          intro L σ x4 H locs cells slots ls hx0 hcs hrm hW hl hs
          unfold m_L_law_L3030 at hs
          refine lv_goto (tgt := 3445) hx hb dL_law_3030 (by decide) ?_
          exact hL3445 L σ x4 _ _ _ _ ls hx0 hcs hrm hW (lv_sub hl [0, 1, 2, 3, 4] rfl) hs
        intro L σ x4 H locs cells slots ls hx0 hcs hrm hW hl hs
        unfold m_L_law_L2965 at hs
        refine lv_aload_n hx hb dL_law_2965 rfl (lv_at hl 1 rfl) ?_
        refine lv_aload_n hx hb dL_law_2966 rfl (lv_at hl 0 rfl) ?_
        refine lv_iload hx hb dL_law_2967 (lv_at hl 4 rfl) ?_
        refine lv_iconst (v := 1) hx hb dL_law_2969 (by decide) ?_
        refine lv_iadd hx hb dL_law_2970 ?_
        obtain ⟨hc132, hs⟩ := ww_chk hs
        refine va_sld hx hb hX hbl hbA hW.2.2.1 hc132 dL_law_2971 ?_
        refine lv_aload_n hx hb dL_law_2972 rfl (lv_at hl 0 rfl) ?_
        refine lv_iload hx hb dL_law_2973 (lv_at hl 4 rfl) ?_
        refine lv_iconst (v := 2) hx hb dL_law_2975 (by decide) ?_
        refine lv_iadd hx hb dL_law_2976 ?_
        obtain ⟨hc133, hs⟩ := ww_chk hs
        refine va_sld hx hb hX hbl hbA hW.2.2.1 hc133 dL_law_2977 ?_
        refine lv_aload_n hx hb dL_law_2978 rfl (lv_at hl 3 rfl) ?_
        obtain ⟨v136, σ137, hc134, hs⟩ := ww_bn2 hs
        have hp138 : pr σ 1 0 := (pr_st (hW.rd hgm) (Nat.le_of_ble_eq_true rfl))
        have hp139 : pr σ 109 0 := (pr_st (hW.rd hgm) (Nat.le_of_ble_eq_true rfl))
        obtain ⟨hc140, hs⟩ := ww_chk hs
        have hp141 : pr σ 100 0 := (pr_dy hc140 rfl rfl)
        obtain ⟨hc142, hs⟩ := ww_chk hs
        obtain ⟨hs, hck⟩ := ww_ck2 hs
        have hrm1 := le2_ (hcs.roomC hc142 hck) hRc
        refine wa_ci (vx_runSW (As := [.ref (L 1 0), .int (xs (x4 + (1 : Int32)).toNatClampNeg), .int (xs (x4 + (2 : Int32)).toNatClampNeg), .ref (L 100 0)]) (rest := []) ⟨hx, hb, hml, hown, hts⟩ (c_X0_called g hgm l L σ (xs (x4 + (1 : Int32)).toNatClampNeg) (xs (x4 + (2 : Int32)).toNatClampNeg) hst _ _ hc134) (vx_cwSW 4 hts (lw_SW q1613 q1614 q110 q1615) rfl rfl rfl hd_X0_called.2 ⟨(Nat.le_of_ble_eq_true rfl), (Nat.le_of_ble_eq_true rfl)⟩) (ww_preS hW) rfl rfl hl.1 rfl (lv_room (Nat.le_of_ble_eq_true rfl)) dL_law_2979 hrm1) hW (fun H locs L hx1 hW => ?_)
        have hc143 : 0 < gN_ σ137 100 := Nat.lt_of_lt_of_le hc140 (hx1.2.1 100)
        have hcs := hcs.call hc142
        have hrm := hrm1
        have hl : lv_has ls 7 [(0, .ref b), (1, .ref (L 1 0)), (2, .ref (L 109 0)), (3, .ref (L 100 0)), (4, .int x4)] := by rw [hx1.at hp138 (by decide), hx1.at hp139 (by decide), hx1.at hp141 (by decide)]; exact hl
        have hx0 := hx0.trans hx1
        refine lv_istore (lv' := [(5, .int v136), (0, .ref b), (1, .ref (L 1 0)), (2, .ref (L 109 0)), (3, .ref (L 100 0)), (4, .int x4)]) hx hb dL_law_2982 hl (by decide) rfl (fun ls hl => ?_)
        refine lv_aload_n hx hb dL_law_2984 rfl (lv_at hl 3 rfl) ?_
        refine lv_aload_n hx hb dL_law_2985 rfl (lv_at hl 1 rfl) ?_
        refine lv_iload hx hb dL_law_2986 (lv_at hl 5 rfl) ?_
        refine lv_iconst (v := 1) hx hb dL_law_2988 (by decide) ?_
        refine lv_iadd hx hb dL_law_2989 ?_
        refine va_sld hx hb hX hbl hbA hW.2.2.1 hc132 dL_law_2990 ?_
        refine lv_aload_n hx hb dL_law_2991 rfl (lv_at hl 1 rfl) ?_
        refine lv_iload hx hb dL_law_2992 (lv_at hl 5 rfl) ?_
        refine lv_iconst (v := 2) hx hb dL_law_2994 (by decide) ?_
        refine lv_iadd hx hb dL_law_2995 ?_
        refine va_sld hx hb hX hbl hbA hW.2.2.1 hc133 dL_law_2996 ?_
        obtain ⟨v146, σ147, hc144, hs⟩ := ww_bn2 hs
        obtain ⟨hkp, hs⟩ := ww_pif hs
        obtain ⟨hx0, hcs⟩ := lx_s hx0 hcs hkp
        refine ww_ci (va_runV (As := [.int (xs (x4 + (1 : Int32)).toNatClampNeg), .int (xs (x4 + (2 : Int32)).toNatClampNeg)]) (rest := []) ⟨hx, hb, hml, hown, hts⟩ (c_X10_called g hgm l L σ137 (xs (x4 + (1 : Int32)).toNatClampNeg) (xs (x4 + (2 : Int32)).toNatClampNeg) _ _ hc144) (cwV 2 hts (lw_V q2458 q2459 q2460 q123 q2461) rfl rfl rfl hd_X10_called ⟨(Nat.le_of_ble_eq_true rfl), (Nat.le_of_ble_eq_true rfl)⟩) (ww_preV hW (pr_st (hW.rd hgm) (Nat.le_of_ble_eq_true rfl)) (obv_0 rfl) rfl) rfl rfl hl.1 rfl (lv_room (Nat.le_of_ble_eq_true rfl)) dL_law_2997 hrm) hW (fun H locs hW => ?_)
        have hc148 : 0 < gN_ σ147 100 := by rw [hkp.1]; exact hc143
        refine lv_istore (lv' := [(6, .int v146), (5, .int v136), (0, .ref b), (1, .ref (L 1 0)), (2, .ref (L 109 0)), (3, .ref (L 100 0)), (4, .int x4)]) hx hb dL_law_3000 hl (by decide) rfl (fun ls hl => ?_)
        refine lv_aload_n hx hb dL_law_3002 rfl (lv_at hl 4 rfl) ?_
        obtain ⟨v151, hc149, hs⟩ := ww_bnd hs
        refine ww_ci (va_runV (As := []) (rest := []) ⟨hx, hb, hml, hown, hts⟩ (c_X10_thrown g hgm l L σ147  _ hc149) (cwV 0 hts (lw_V q1671 q1672 q1673 q123 q1674) rfl rfl rfl hd_X10_thrown ⟨(Nat.le_of_ble_eq_true rfl), (Nat.le_of_ble_eq_true rfl)⟩) (ww_preV hW (pr_st (hW.rd hgm) (Nat.le_of_ble_eq_true rfl)) (obv_0 rfl) rfl) rfl rfl hl.1 rfl (lv_room (Nat.le_of_ble_eq_true rfl)) dL_law_3003 hrm) hW (fun H locs hW => ?_)
        refine lv_iload hx hb dL_law_3006 (lv_at hl 1 rfl) ?_
        refine lv_icmp_eq (tgt := 3013) hx hb dL_law_3008 (by decide) (fun hc152 => ?_) (fun hc152 => ?_)
        · have hs := ww_T hs hc152
          refine lv_iload hx hb dL_law_3013 (lv_at hl 1 rfl) ?_
          refine lv_if_ne (tgt := 3030) hx hb dL_law_3015 (by decide) (fun hc153 => ?_) (fun hc153 => ?_)
          · have hs := ww_F hs hc153
            exact hL3030 L σ147 x4 _ _ _ _ ls hx0 hcs hrm hW (lv_sub hl [2, 3, 4, 5, 6] rfl) hs
          · have hs := ww_T hs hc153
            refine lv_aload_n hx hb dL_law_3018 rfl (lv_at hl 5 rfl) ?_
            refine lv_iconst (v := 0) hx hb dL_law_3019 (by decide) ?_
            refine ww_lald hx hb hW (pr_dy hc148 rfl rfl) (j := (0 : Int32)) (vin_lit rfl) dL_law_3020 ?_
            refine lv_iload hx hb dL_law_3021 (lv_at hl 0 rfl) ?_
            refine lv_i2l hx hb dL_law_3023 rfl ?_
            refine W.lcmp hx hb dL_law_3024 ?_
            refine lv_if_eq (tgt := 3030) hx hb dL_law_3025 (by decide) (fun hc154 => ?_) (fun hc154 => ?_)
            · have hs := ww_T hs hc154
              exact hL3030 L σ147 x4 _ _ _ _ ls hx0 hcs hrm hW (lv_sub hl [2, 3, 4, 5, 6] rfl) hs
            · have hs := ww_F hs hc154
              refine lv_iconst (v := 0) hx hb dL_law_3028 (by decide) ?_
              have hs := ww_S hs
              exact wl_ret hx hb hr hlocks hW hsz hrm (congrArg Prod.fst hs) hr1 dL_law_3029
        · have hs := ww_F hs hc152
          refine lv_iconst (v := 0) hx hb dL_law_3011 (by decide) ?_
          have hs := ww_S hs
          exact wl_ret hx hb hr hlocks hW hsz hrm (congrArg Prod.fst hs) hr1 dL_law_3012
      have hL2897 : ∀ (L : ly_T) (σ : st_T) (x4 : Int32) (H : Heap) (locs : List Loc) (cells slots : Nat) (ls : Array Slot), lext L0 σ0 L σ → bk σ0 σ cells slots → (cells ≤ 1200384 ∧ slots ≤ 5487786) → wv g L σ s H locs → lv_has ls 7 [(0, .ref b), (1, .ref (L 1 0)), (2, .ref (L 109 0)), (3, .ref (L 100 0)), (4, .int x4)] → (m_L_law_L2897 N xs (m_L_law_L3445 N xs (m_L_law_L23 N xs n23))) σ x4 = some (r_, σ_) → W p l e (room_1) s m #[Value.ref b] below meth c H locs cells slots (lw_Z below #[Value.ref b] s) (F0 m 2897 ls []) := by
        have hL2962 : ∀ (L : ly_T) (σ : st_T) (x4 : Int32) (H : Heap) (locs : List Loc) (cells slots : Nat) (ls : Array Slot), lext L0 σ0 L σ → bk σ0 σ cells slots → (cells ≤ 1200384 ∧ slots ≤ 5487786) → wv g L σ s H locs → lv_has ls 7 [(0, .ref b), (1, .ref (L 1 0)), (2, .ref (L 109 0)), (3, .ref (L 100 0)), (4, .int x4)] → (m_L_law_L2962 N xs (m_L_law_L3445 N xs (m_L_law_L23 N xs n23))) σ x4 = some (r_, σ_) → W p l e (room_1) s m #[Value.ref b] below meth c H locs cells slots (lw_Z below #[Value.ref b] s) (F0 m 2962 ls []) := by
          intro L σ x4 H locs cells slots ls hx0 hcs hrm hW hl hs
          unfold m_L_law_L2962 at hs
          refine lv_goto (tgt := 3445) hx hb dL_law_2962 (by decide) ?_
          exact hL3445 L σ x4 _ _ _ _ ls hx0 hcs hrm hW (lv_sub hl [0, 1, 2, 3, 4] rfl) hs
        intro L σ x4 H locs cells slots ls hx0 hcs hrm hW hl hs
        unfold m_L_law_L2897 at hs
        refine lv_aload_n hx hb dL_law_2897 rfl (lv_at hl 1 rfl) ?_
        refine lv_aload_n hx hb dL_law_2898 rfl (lv_at hl 0 rfl) ?_
        refine lv_iload hx hb dL_law_2899 (lv_at hl 4 rfl) ?_
        refine lv_iconst (v := 1) hx hb dL_law_2901 (by decide) ?_
        refine lv_iadd hx hb dL_law_2902 ?_
        obtain ⟨hc155, hs⟩ := ww_chk hs
        refine va_sld hx hb hX hbl hbA hW.2.2.1 hc155 dL_law_2903 ?_
        refine lv_aload_n hx hb dL_law_2904 rfl (lv_at hl 0 rfl) ?_
        refine lv_iload hx hb dL_law_2905 (lv_at hl 4 rfl) ?_
        refine lv_iconst (v := 2) hx hb dL_law_2907 (by decide) ?_
        refine lv_iadd hx hb dL_law_2908 ?_
        obtain ⟨hc156, hs⟩ := ww_chk hs
        refine va_sld hx hb hX hbl hbA hW.2.2.1 hc156 dL_law_2909 ?_
        refine lv_aload_n hx hb dL_law_2910 rfl (lv_at hl 3 rfl) ?_
        obtain ⟨v159, σ160, hc157, hs⟩ := ww_bn2 hs
        have hp161 : pr σ 1 0 := (pr_st (hW.rd hgm) (Nat.le_of_ble_eq_true rfl))
        have hp162 : pr σ 109 0 := (pr_st (hW.rd hgm) (Nat.le_of_ble_eq_true rfl))
        obtain ⟨hc163, hs⟩ := ww_chk hs
        have hp164 : pr σ 100 0 := (pr_dy hc163 rfl rfl)
        obtain ⟨hc165, hs⟩ := ww_chk hs
        obtain ⟨hs, hck⟩ := ww_ck2 hs
        have hrm1 := le2_ (hcs.roomC hc165 hck) hRc
        refine wa_ci (vx_runSW (As := [.ref (L 1 0), .int (xs (x4 + (1 : Int32)).toNatClampNeg), .int (xs (x4 + (2 : Int32)).toNatClampNeg), .ref (L 100 0)]) (rest := []) ⟨hx, hb, hml, hown, hts⟩ (c_X0_causes g hgm l L σ (xs (x4 + (1 : Int32)).toNatClampNeg) (xs (x4 + (2 : Int32)).toNatClampNeg) hst _ _ hc157) (vx_cwSW 4 hts (lw_SW q1606 q1607 q110 q1608) rfl rfl rfl hd_X0_causes.2 ⟨(Nat.le_of_ble_eq_true rfl), (Nat.le_of_ble_eq_true rfl)⟩) (ww_preS hW) rfl rfl hl.1 rfl (lv_room (Nat.le_of_ble_eq_true rfl)) dL_law_2911 hrm1) hW (fun H locs L hx1 hW => ?_)
        have hc166 : 0 < gN_ σ160 100 := Nat.lt_of_lt_of_le hc163 (hx1.2.1 100)
        have hcs := hcs.call hc165
        have hrm := hrm1
        have hl : lv_has ls 7 [(0, .ref b), (1, .ref (L 1 0)), (2, .ref (L 109 0)), (3, .ref (L 100 0)), (4, .int x4)] := by rw [hx1.at hp161 (by decide), hx1.at hp162 (by decide), hx1.at hp164 (by decide)]; exact hl
        have hx0 := hx0.trans hx1
        refine lv_istore (lv' := [(5, .int v159), (0, .ref b), (1, .ref (L 1 0)), (2, .ref (L 109 0)), (3, .ref (L 100 0)), (4, .int x4)]) hx hb dL_law_2914 hl (by decide) rfl (fun ls hl => ?_)
        refine lv_aload_n hx hb dL_law_2916 rfl (lv_at hl 3 rfl) ?_
        refine lv_aload_n hx hb dL_law_2917 rfl (lv_at hl 1 rfl) ?_
        refine lv_iload hx hb dL_law_2918 (lv_at hl 5 rfl) ?_
        refine lv_iconst (v := 1) hx hb dL_law_2920 (by decide) ?_
        refine lv_iadd hx hb dL_law_2921 ?_
        refine va_sld hx hb hX hbl hbA hW.2.2.1 hc155 dL_law_2922 ?_
        refine lv_aload_n hx hb dL_law_2923 rfl (lv_at hl 1 rfl) ?_
        refine lv_iload hx hb dL_law_2924 (lv_at hl 5 rfl) ?_
        refine lv_iconst (v := 2) hx hb dL_law_2926 (by decide) ?_
        refine lv_iadd hx hb dL_law_2927 ?_
        refine va_sld hx hb hX hbl hbA hW.2.2.1 hc156 dL_law_2928 ?_
        obtain ⟨v169, σ170, hc167, hs⟩ := ww_bn2 hs
        obtain ⟨hkp, hs⟩ := ww_pif hs
        obtain ⟨hx0, hcs⟩ := lx_s hx0 hcs hkp
        refine ww_ci (va_runV (As := [.int (xs (x4 + (1 : Int32)).toNatClampNeg), .int (xs (x4 + (2 : Int32)).toNatClampNeg)]) (rest := []) ⟨hx, hb, hml, hown, hts⟩ (c_X10_causes g hgm l L σ160 (xs (x4 + (1 : Int32)).toNatClampNeg) (xs (x4 + (2 : Int32)).toNatClampNeg) _ _ hc167) (cwV 2 hts (lw_V q2454 q2455 q2456 q123 q2457) rfl rfl rfl hd_X10_causes ⟨(Nat.le_of_ble_eq_true rfl), (Nat.le_of_ble_eq_true rfl)⟩) (ww_preV hW (pr_st (hW.rd hgm) (Nat.le_of_ble_eq_true rfl)) (obv_0 rfl) rfl) rfl rfl hl.1 rfl (lv_room (Nat.le_of_ble_eq_true rfl)) dL_law_2929 hrm) hW (fun H locs hW => ?_)
        have hc171 : 0 < gN_ σ170 100 := by rw [hkp.1]; exact hc166
        refine lv_istore (lv' := [(6, .int v169), (5, .int v159), (0, .ref b), (1, .ref (L 1 0)), (2, .ref (L 109 0)), (3, .ref (L 100 0)), (4, .int x4)]) hx hb dL_law_2932 hl (by decide) rfl (fun ls hl => ?_)
        refine lv_aload_n hx hb dL_law_2934 rfl (lv_at hl 4 rfl) ?_
        obtain ⟨v174, hc172, hs⟩ := ww_bnd hs
        refine ww_ci (va_runV (As := []) (rest := []) ⟨hx, hb, hml, hown, hts⟩ (c_X10_thrown g hgm l L σ170  _ hc172) (cwV 0 hts (lw_V q1671 q1672 q1673 q123 q1674) rfl rfl rfl hd_X10_thrown ⟨(Nat.le_of_ble_eq_true rfl), (Nat.le_of_ble_eq_true rfl)⟩) (ww_preV hW (pr_st (hW.rd hgm) (Nat.le_of_ble_eq_true rfl)) (obv_0 rfl) rfl) rfl rfl hl.1 rfl (lv_room (Nat.le_of_ble_eq_true rfl)) dL_law_2935 hrm) hW (fun H locs hW => ?_)
        refine lv_iload hx hb dL_law_2938 (lv_at hl 1 rfl) ?_
        refine lv_icmp_eq (tgt := 2945) hx hb dL_law_2940 (by decide) (fun hc175 => ?_) (fun hc175 => ?_)
        · have hs := ww_T hs hc175
          refine lv_iload hx hb dL_law_2945 (lv_at hl 1 rfl) ?_
          refine lv_if_ne (tgt := 2962) hx hb dL_law_2947 (by decide) (fun hc176 => ?_) (fun hc176 => ?_)
          · have hs := ww_F hs hc176
            exact hL2962 L σ170 x4 _ _ _ _ ls hx0 hcs hrm hW (lv_sub hl [2, 3, 4, 5, 6] rfl) hs
          · have hs := ww_T hs hc176
            refine lv_aload_n hx hb dL_law_2950 rfl (lv_at hl 5 rfl) ?_
            refine lv_iconst (v := 0) hx hb dL_law_2951 (by decide) ?_
            refine ww_lald hx hb hW (pr_dy hc171 rfl rfl) (j := (0 : Int32)) (vin_lit rfl) dL_law_2952 ?_
            refine lv_iload hx hb dL_law_2953 (lv_at hl 0 rfl) ?_
            refine lv_i2l hx hb dL_law_2955 rfl ?_
            refine W.lcmp hx hb dL_law_2956 ?_
            refine lv_if_eq (tgt := 2962) hx hb dL_law_2957 (by decide) (fun hc177 => ?_) (fun hc177 => ?_)
            · have hs := ww_T hs hc177
              exact hL2962 L σ170 x4 _ _ _ _ ls hx0 hcs hrm hW (lv_sub hl [2, 3, 4, 5, 6] rfl) hs
            · have hs := ww_F hs hc177
              refine lv_iconst (v := 0) hx hb dL_law_2960 (by decide) ?_
              have hs := ww_S hs
              exact wl_ret hx hb hr hlocks hW hsz hrm (congrArg Prod.fst hs) hr1 dL_law_2961
        · have hs := ww_F hs hc175
          refine lv_iconst (v := 0) hx hb dL_law_2943 (by decide) ?_
          have hs := ww_S hs
          exact wl_ret hx hb hr hlocks hW hsz hrm (congrArg Prod.fst hs) hr1 dL_law_2944
      have hL2841 : ∀ (L : ly_T) (σ : st_T) (x4 : Int32) (H : Heap) (locs : List Loc) (cells slots : Nat) (ls : Array Slot), lext L0 σ0 L σ → bk σ0 σ cells slots → (cells ≤ 1200384 ∧ slots ≤ 5487786) → wv g L σ s H locs → lv_has ls 7 [(0, .ref b), (1, .ref (L 1 0)), (2, .ref (L 109 0)), (3, .ref (L 100 0)), (4, .int x4)] → (m_L_law_L2841 N xs (m_L_law_L3445 N xs (m_L_law_L23 N xs n23))) σ x4 = some (r_, σ_) → W p l e (room_1) s m #[Value.ref b] below meth c H locs cells slots (lw_Z below #[Value.ref b] s) (F0 m 2841 ls []) := by
        have hL2894 : ∀ (L : ly_T) (σ : st_T) (x4 : Int32) (H : Heap) (locs : List Loc) (cells slots : Nat) (ls : Array Slot), lext L0 σ0 L σ → bk σ0 σ cells slots → (cells ≤ 1200384 ∧ slots ≤ 5487786) → wv g L σ s H locs → lv_has ls 7 [(0, .ref b), (1, .ref (L 1 0)), (2, .ref (L 109 0)), (3, .ref (L 100 0)), (4, .int x4)] → (m_L_law_L2894 N xs (m_L_law_L3445 N xs (m_L_law_L23 N xs n23))) σ x4 = some (r_, σ_) → W p l e (room_1) s m #[Value.ref b] below meth c H locs cells slots (lw_Z below #[Value.ref b] s) (F0 m 2894 ls []) := by
          intro L σ x4 H locs cells slots ls hx0 hcs hrm hW hl hs
          unfold m_L_law_L2894 at hs
          refine lv_goto (tgt := 3445) hx hb dL_law_2894 (by decide) ?_
          exact hL3445 L σ x4 _ _ _ _ ls hx0 hcs hrm hW (lv_sub hl [0, 1, 2, 3, 4] rfl) hs
        intro L σ x4 H locs cells slots ls hx0 hcs hrm hW hl hs
        unfold m_L_law_L2841 at hs
        refine lv_aload_n hx hb dL_law_2841 rfl (lv_at hl 1 rfl) ?_
        refine lv_aload_n hx hb dL_law_2842 rfl (lv_at hl 0 rfl) ?_
        refine lv_iload hx hb dL_law_2843 (lv_at hl 4 rfl) ?_
        refine lv_iconst (v := 1) hx hb dL_law_2845 (by decide) ?_
        refine lv_iadd hx hb dL_law_2846 ?_
        obtain ⟨hc178, hs⟩ := ww_chk hs
        refine va_sld hx hb hX hbl hbA hW.2.2.1 hc178 dL_law_2847 ?_
        refine lv_aload_n hx hb dL_law_2848 rfl (lv_at hl 3 rfl) ?_
        obtain ⟨v181, σ182, hc179, hs⟩ := ww_bn2 hs
        have hp183 : pr σ 1 0 := (pr_st (hW.rd hgm) (Nat.le_of_ble_eq_true rfl))
        have hp184 : pr σ 109 0 := (pr_st (hW.rd hgm) (Nat.le_of_ble_eq_true rfl))
        obtain ⟨hc185, hs⟩ := ww_chk hs
        have hp186 : pr σ 100 0 := (pr_dy hc185 rfl rfl)
        obtain ⟨hc187, hs⟩ := ww_chk hs
        obtain ⟨hs, hck⟩ := ww_ck2 hs
        have hrm1 := le2_ (hcs.roomC hc187 hck) hRc
        refine wa_ci (vx_runSW (As := [.ref (L 1 0), .int (xs (x4 + (1 : Int32)).toNatClampNeg), .ref (L 100 0)]) (rest := []) ⟨hx, hb, hml, hown, hts⟩ (c_X0_cause g hgm l L σ (xs (x4 + (1 : Int32)).toNatClampNeg) hst _ _ hc179) (vx_cwSW 3 hts (lw_SW q1591 q1592 q110 q1593) rfl rfl rfl hd_X0_cause.2 ⟨(Nat.le_of_ble_eq_true rfl), (Nat.le_of_ble_eq_true rfl)⟩) (ww_preS hW) rfl rfl hl.1 rfl (lv_room (Nat.le_of_ble_eq_true rfl)) dL_law_2849 hrm1) hW (fun H locs L hx1 hW => ?_)
        have hc188 : 0 < gN_ σ182 100 := Nat.lt_of_lt_of_le hc185 (hx1.2.1 100)
        have hcs := hcs.call hc187
        have hrm := hrm1
        have hl : lv_has ls 7 [(0, .ref b), (1, .ref (L 1 0)), (2, .ref (L 109 0)), (3, .ref (L 100 0)), (4, .int x4)] := by rw [hx1.at hp183 (by decide), hx1.at hp184 (by decide), hx1.at hp186 (by decide)]; exact hl
        have hx0 := hx0.trans hx1
        refine lv_istore (lv' := [(5, .int v181), (0, .ref b), (1, .ref (L 1 0)), (2, .ref (L 109 0)), (3, .ref (L 100 0)), (4, .int x4)]) hx hb dL_law_2852 hl (by decide) rfl (fun ls hl => ?_)
        refine lv_aload_n hx hb dL_law_2854 rfl (lv_at hl 3 rfl) ?_
        refine lv_aload_n hx hb dL_law_2855 rfl (lv_at hl 1 rfl) ?_
        refine lv_iload hx hb dL_law_2856 (lv_at hl 5 rfl) ?_
        refine lv_iconst (v := 1) hx hb dL_law_2858 (by decide) ?_
        refine lv_iadd hx hb dL_law_2859 ?_
        refine va_sld hx hb hX hbl hbA hW.2.2.1 hc178 dL_law_2860 ?_
        obtain ⟨v191, σ192, hc189, hs⟩ := ww_bn2 hs
        obtain ⟨hkp, hs⟩ := ww_pif hs
        obtain ⟨hx0, hcs⟩ := lx_s hx0 hcs hkp
        refine ww_ci (va_runV (As := [.int (xs (x4 + (1 : Int32)).toNatClampNeg)]) (rest := []) ⟨hx, hb, hml, hown, hts⟩ (c_X10_cause g hgm l L σ182 (xs (x4 + (1 : Int32)).toNatClampNeg) _ _ hc189) (cwV 1 hts (lw_V q2446 q2447 q2448 q123 q2449) rfl rfl rfl hd_X10_cause ⟨(Nat.le_of_ble_eq_true rfl), (Nat.le_of_ble_eq_true rfl)⟩) (ww_preV hW (pr_st (hW.rd hgm) (Nat.le_of_ble_eq_true rfl)) (obv_0 rfl) rfl) rfl rfl hl.1 rfl (lv_room (Nat.le_of_ble_eq_true rfl)) dL_law_2861 hrm) hW (fun H locs hW => ?_)
        have hc193 : 0 < gN_ σ192 100 := by rw [hkp.1]; exact hc188
        refine lv_istore (lv' := [(6, .int v191), (5, .int v181), (0, .ref b), (1, .ref (L 1 0)), (2, .ref (L 109 0)), (3, .ref (L 100 0)), (4, .int x4)]) hx hb dL_law_2864 hl (by decide) rfl (fun ls hl => ?_)
        refine lv_aload_n hx hb dL_law_2866 rfl (lv_at hl 4 rfl) ?_
        obtain ⟨v196, hc194, hs⟩ := ww_bnd hs
        refine ww_ci (va_runV (As := []) (rest := []) ⟨hx, hb, hml, hown, hts⟩ (c_X10_thrown g hgm l L σ192  _ hc194) (cwV 0 hts (lw_V q1671 q1672 q1673 q123 q1674) rfl rfl rfl hd_X10_thrown ⟨(Nat.le_of_ble_eq_true rfl), (Nat.le_of_ble_eq_true rfl)⟩) (ww_preV hW (pr_st (hW.rd hgm) (Nat.le_of_ble_eq_true rfl)) (obv_0 rfl) rfl) rfl rfl hl.1 rfl (lv_room (Nat.le_of_ble_eq_true rfl)) dL_law_2867 hrm) hW (fun H locs hW => ?_)
        refine lv_iload hx hb dL_law_2870 (lv_at hl 1 rfl) ?_
        refine lv_icmp_eq (tgt := 2877) hx hb dL_law_2872 (by decide) (fun hc197 => ?_) (fun hc197 => ?_)
        · have hs := ww_T hs hc197
          refine lv_iload hx hb dL_law_2877 (lv_at hl 1 rfl) ?_
          refine lv_if_ne (tgt := 2894) hx hb dL_law_2879 (by decide) (fun hc198 => ?_) (fun hc198 => ?_)
          · have hs := ww_F hs hc198
            exact hL2894 L σ192 x4 _ _ _ _ ls hx0 hcs hrm hW (lv_sub hl [2, 3, 4, 5, 6] rfl) hs
          · have hs := ww_T hs hc198
            refine lv_aload_n hx hb dL_law_2882 rfl (lv_at hl 5 rfl) ?_
            refine lv_iconst (v := 0) hx hb dL_law_2883 (by decide) ?_
            refine ww_lald hx hb hW (pr_dy hc193 rfl rfl) (j := (0 : Int32)) (vin_lit rfl) dL_law_2884 ?_
            refine lv_iload hx hb dL_law_2885 (lv_at hl 0 rfl) ?_
            refine lv_i2l hx hb dL_law_2887 rfl ?_
            refine W.lcmp hx hb dL_law_2888 ?_
            refine lv_if_eq (tgt := 2894) hx hb dL_law_2889 (by decide) (fun hc199 => ?_) (fun hc199 => ?_)
            · have hs := ww_T hs hc199
              exact hL2894 L σ192 x4 _ _ _ _ ls hx0 hcs hrm hW (lv_sub hl [2, 3, 4, 5, 6] rfl) hs
            · have hs := ww_F hs hc199
              refine lv_iconst (v := 0) hx hb dL_law_2892 (by decide) ?_
              have hs := ww_S hs
              exact wl_ret hx hb hr hlocks hW hsz hrm (congrArg Prod.fst hs) hr1 dL_law_2893
        · have hs := ww_F hs hc197
          refine lv_iconst (v := 0) hx hb dL_law_2875 (by decide) ?_
          have hs := ww_S hs
          exact wl_ret hx hb hr hlocks hW hsz hrm (congrArg Prod.fst hs) hr1 dL_law_2876
      have hL2773 : ∀ (L : ly_T) (σ : st_T) (x4 : Int32) (H : Heap) (locs : List Loc) (cells slots : Nat) (ls : Array Slot), lext L0 σ0 L σ → bk σ0 σ cells slots → (cells ≤ 1200384 ∧ slots ≤ 5487786) → wv g L σ s H locs → lv_has ls 7 [(0, .ref b), (1, .ref (L 1 0)), (2, .ref (L 109 0)), (3, .ref (L 100 0)), (4, .int x4)] → (m_L_law_L2773 N xs (m_L_law_L3445 N xs (m_L_law_L23 N xs n23))) σ x4 = some (r_, σ_) → W p l e (room_1) s m #[Value.ref b] below meth c H locs cells slots (lw_Z below #[Value.ref b] s) (F0 m 2773 ls []) := by
        have hL2838 : ∀ (L : ly_T) (σ : st_T) (x4 : Int32) (H : Heap) (locs : List Loc) (cells slots : Nat) (ls : Array Slot), lext L0 σ0 L σ → bk σ0 σ cells slots → (cells ≤ 1200384 ∧ slots ≤ 5487786) → wv g L σ s H locs → lv_has ls 7 [(0, .ref b), (1, .ref (L 1 0)), (2, .ref (L 109 0)), (3, .ref (L 100 0)), (4, .int x4)] → (m_L_law_L2838 N xs (m_L_law_L3445 N xs (m_L_law_L23 N xs n23))) σ x4 = some (r_, σ_) → W p l e (room_1) s m #[Value.ref b] below meth c H locs cells slots (lw_Z below #[Value.ref b] s) (F0 m 2838 ls []) := by
          intro L σ x4 H locs cells slots ls hx0 hcs hrm hW hl hs
          unfold m_L_law_L2838 at hs
          refine lv_goto (tgt := 3445) hx hb dL_law_2838 (by decide) ?_
          exact hL3445 L σ x4 _ _ _ _ ls hx0 hcs hrm hW (lv_sub hl [0, 1, 2, 3, 4] rfl) hs
        intro L σ x4 H locs cells slots ls hx0 hcs hrm hW hl hs
        unfold m_L_law_L2773 at hs
        refine lv_aload_n hx hb dL_law_2773 rfl (lv_at hl 1 rfl) ?_
        refine lv_aload_n hx hb dL_law_2774 rfl (lv_at hl 0 rfl) ?_
        refine lv_iload hx hb dL_law_2775 (lv_at hl 4 rfl) ?_
        refine lv_iconst (v := 1) hx hb dL_law_2777 (by decide) ?_
        refine lv_iadd hx hb dL_law_2778 ?_
        obtain ⟨hc200, hs⟩ := ww_chk hs
        refine va_sld hx hb hX hbl hbA hW.2.2.1 hc200 dL_law_2779 ?_
        refine lv_aload_n hx hb dL_law_2780 rfl (lv_at hl 0 rfl) ?_
        refine lv_iload hx hb dL_law_2781 (lv_at hl 4 rfl) ?_
        refine lv_iconst (v := 2) hx hb dL_law_2783 (by decide) ?_
        refine lv_iadd hx hb dL_law_2784 ?_
        obtain ⟨hc201, hs⟩ := ww_chk hs
        refine va_sld hx hb hX hbl hbA hW.2.2.1 hc201 dL_law_2785 ?_
        refine lv_aload_n hx hb dL_law_2786 rfl (lv_at hl 3 rfl) ?_
        obtain ⟨v204, σ205, hc202, hs⟩ := ww_bn2 hs
        have hp206 : pr σ 1 0 := (pr_st (hW.rd hgm) (Nat.le_of_ble_eq_true rfl))
        have hp207 : pr σ 109 0 := (pr_st (hW.rd hgm) (Nat.le_of_ble_eq_true rfl))
        obtain ⟨hc208, hs⟩ := ww_chk hs
        have hp209 : pr σ 100 0 := (pr_dy hc208 rfl rfl)
        obtain ⟨hc210, hs⟩ := ww_chk hs
        obtain ⟨hs, hck⟩ := ww_ck2 hs
        have hrm1 := le2_ (hcs.roomC hc210 hck) hRc
        refine wa_ci (vx_runSW (As := [.ref (L 1 0), .int (xs (x4 + (1 : Int32)).toNatClampNeg), .int (xs (x4 + (2 : Int32)).toNatClampNeg), .ref (L 100 0)]) (rest := []) ⟨hx, hb, hml, hown, hts⟩ (c_X0_trip g hgm l L σ (xs (x4 + (1 : Int32)).toNatClampNeg) (xs (x4 + (2 : Int32)).toNatClampNeg) hst _ _ hc202) (vx_cwSW 4 hts (lw_SW q1565 q1566 q110 q1567) rfl rfl rfl hd_X0_trip.2 ⟨(Nat.le_of_ble_eq_true rfl), (Nat.le_of_ble_eq_true rfl)⟩) (ww_preS hW) rfl rfl hl.1 rfl (lv_room (Nat.le_of_ble_eq_true rfl)) dL_law_2787 hrm1) hW (fun H locs L hx1 hW => ?_)
        have hc211 : 0 < gN_ σ205 100 := Nat.lt_of_lt_of_le hc208 (hx1.2.1 100)
        have hcs := hcs.call hc210
        have hrm := hrm1
        have hl : lv_has ls 7 [(0, .ref b), (1, .ref (L 1 0)), (2, .ref (L 109 0)), (3, .ref (L 100 0)), (4, .int x4)] := by rw [hx1.at hp206 (by decide), hx1.at hp207 (by decide), hx1.at hp209 (by decide)]; exact hl
        have hx0 := hx0.trans hx1
        refine lv_istore (lv' := [(5, .int v204), (0, .ref b), (1, .ref (L 1 0)), (2, .ref (L 109 0)), (3, .ref (L 100 0)), (4, .int x4)]) hx hb dL_law_2790 hl (by decide) rfl (fun ls hl => ?_)
        refine lv_aload_n hx hb dL_law_2792 rfl (lv_at hl 3 rfl) ?_
        refine lv_aload_n hx hb dL_law_2793 rfl (lv_at hl 1 rfl) ?_
        refine lv_iload hx hb dL_law_2794 (lv_at hl 5 rfl) ?_
        refine lv_iconst (v := 1) hx hb dL_law_2796 (by decide) ?_
        refine lv_iadd hx hb dL_law_2797 ?_
        refine va_sld hx hb hX hbl hbA hW.2.2.1 hc200 dL_law_2798 ?_
        refine lv_aload_n hx hb dL_law_2799 rfl (lv_at hl 1 rfl) ?_
        refine lv_iload hx hb dL_law_2800 (lv_at hl 5 rfl) ?_
        refine lv_iconst (v := 2) hx hb dL_law_2802 (by decide) ?_
        refine lv_iadd hx hb dL_law_2803 ?_
        refine va_sld hx hb hX hbl hbA hW.2.2.1 hc201 dL_law_2804 ?_
        obtain ⟨v214, σ215, hc212, hs⟩ := ww_bn2 hs
        obtain ⟨hkp, hs⟩ := ww_pif hs
        obtain ⟨hx0, hcs⟩ := lx_s hx0 hcs hkp
        refine ww_ci (va_runV (As := [.int (xs (x4 + (1 : Int32)).toNatClampNeg), .int (xs (x4 + (2 : Int32)).toNatClampNeg)]) (rest := []) ⟨hx, hb, hml, hown, hts⟩ (c_X10_trip g hgm l L σ205 (xs (x4 + (1 : Int32)).toNatClampNeg) (xs (x4 + (2 : Int32)).toNatClampNeg) _ _ hc212) (cwV 2 hts (lw_V q2442 q2443 q2444 q123 q2445) rfl rfl rfl hd_X10_trip ⟨(Nat.le_of_ble_eq_true rfl), (Nat.le_of_ble_eq_true rfl)⟩) (ww_preV hW (pr_st (hW.rd hgm) (Nat.le_of_ble_eq_true rfl)) (obv_0 rfl) rfl) rfl rfl hl.1 rfl (lv_room (Nat.le_of_ble_eq_true rfl)) dL_law_2805 hrm) hW (fun H locs hW => ?_)
        have hc216 : 0 < gN_ σ215 100 := by rw [hkp.1]; exact hc211
        refine lv_istore (lv' := [(6, .int v214), (5, .int v204), (0, .ref b), (1, .ref (L 1 0)), (2, .ref (L 109 0)), (3, .ref (L 100 0)), (4, .int x4)]) hx hb dL_law_2808 hl (by decide) rfl (fun ls hl => ?_)
        refine lv_aload_n hx hb dL_law_2810 rfl (lv_at hl 4 rfl) ?_
        obtain ⟨v219, hc217, hs⟩ := ww_bnd hs
        refine ww_ci (va_runV (As := []) (rest := []) ⟨hx, hb, hml, hown, hts⟩ (c_X10_thrown g hgm l L σ215  _ hc217) (cwV 0 hts (lw_V q1671 q1672 q1673 q123 q1674) rfl rfl rfl hd_X10_thrown ⟨(Nat.le_of_ble_eq_true rfl), (Nat.le_of_ble_eq_true rfl)⟩) (ww_preV hW (pr_st (hW.rd hgm) (Nat.le_of_ble_eq_true rfl)) (obv_0 rfl) rfl) rfl rfl hl.1 rfl (lv_room (Nat.le_of_ble_eq_true rfl)) dL_law_2811 hrm) hW (fun H locs hW => ?_)
        refine lv_iload hx hb dL_law_2814 (lv_at hl 1 rfl) ?_
        refine lv_icmp_eq (tgt := 2821) hx hb dL_law_2816 (by decide) (fun hc220 => ?_) (fun hc220 => ?_)
        · have hs := ww_T hs hc220
          refine lv_iload hx hb dL_law_2821 (lv_at hl 1 rfl) ?_
          refine lv_if_ne (tgt := 2838) hx hb dL_law_2823 (by decide) (fun hc221 => ?_) (fun hc221 => ?_)
          · have hs := ww_F hs hc221
            exact hL2838 L σ215 x4 _ _ _ _ ls hx0 hcs hrm hW (lv_sub hl [2, 3, 4, 5, 6] rfl) hs
          · have hs := ww_T hs hc221
            refine lv_aload_n hx hb dL_law_2826 rfl (lv_at hl 5 rfl) ?_
            refine lv_iconst (v := 0) hx hb dL_law_2827 (by decide) ?_
            refine ww_lald hx hb hW (pr_dy hc216 rfl rfl) (j := (0 : Int32)) (vin_lit rfl) dL_law_2828 ?_
            refine lv_iload hx hb dL_law_2829 (lv_at hl 0 rfl) ?_
            refine lv_i2l hx hb dL_law_2831 rfl ?_
            refine W.lcmp hx hb dL_law_2832 ?_
            refine lv_if_eq (tgt := 2838) hx hb dL_law_2833 (by decide) (fun hc222 => ?_) (fun hc222 => ?_)
            · have hs := ww_T hs hc222
              exact hL2838 L σ215 x4 _ _ _ _ ls hx0 hcs hrm hW (lv_sub hl [2, 3, 4, 5, 6] rfl) hs
            · have hs := ww_F hs hc222
              refine lv_iconst (v := 0) hx hb dL_law_2836 (by decide) ?_
              have hs := ww_S hs
              exact wl_ret hx hb hr hlocks hW hsz hrm (congrArg Prod.fst hs) hr1 dL_law_2837
        · have hs := ww_F hs hc220
          refine lv_iconst (v := 0) hx hb dL_law_2819 (by decide) ?_
          have hs := ww_S hs
          exact wl_ret hx hb hr hlocks hW hsz hrm (congrArg Prod.fst hs) hr1 dL_law_2820
      have hL2705 : ∀ (L : ly_T) (σ : st_T) (x4 : Int32) (H : Heap) (locs : List Loc) (cells slots : Nat) (ls : Array Slot), lext L0 σ0 L σ → bk σ0 σ cells slots → (cells ≤ 1200384 ∧ slots ≤ 5487786) → wv g L σ s H locs → lv_has ls 7 [(0, .ref b), (1, .ref (L 1 0)), (2, .ref (L 109 0)), (3, .ref (L 100 0)), (4, .int x4)] → (m_L_law_L2705 N xs (m_L_law_L3445 N xs (m_L_law_L23 N xs n23))) σ x4 = some (r_, σ_) → W p l e (room_1) s m #[Value.ref b] below meth c H locs cells slots (lw_Z below #[Value.ref b] s) (F0 m 2705 ls []) := by
        have hL2770 : ∀ (L : ly_T) (σ : st_T) (x4 : Int32) (H : Heap) (locs : List Loc) (cells slots : Nat) (ls : Array Slot), lext L0 σ0 L σ → bk σ0 σ cells slots → (cells ≤ 1200384 ∧ slots ≤ 5487786) → wv g L σ s H locs → lv_has ls 7 [(0, .ref b), (1, .ref (L 1 0)), (2, .ref (L 109 0)), (3, .ref (L 100 0)), (4, .int x4)] → (m_L_law_L2770 N xs (m_L_law_L3445 N xs (m_L_law_L23 N xs n23))) σ x4 = some (r_, σ_) → W p l e (room_1) s m #[Value.ref b] below meth c H locs cells slots (lw_Z below #[Value.ref b] s) (F0 m 2770 ls []) := by
          intro L σ x4 H locs cells slots ls hx0 hcs hrm hW hl hs
          unfold m_L_law_L2770 at hs
          refine lv_goto (tgt := 3445) hx hb dL_law_2770 (by decide) ?_
          exact hL3445 L σ x4 _ _ _ _ ls hx0 hcs hrm hW (lv_sub hl [0, 1, 2, 3, 4] rfl) hs
        intro L σ x4 H locs cells slots ls hx0 hcs hrm hW hl hs
        unfold m_L_law_L2705 at hs
        refine lv_aload_n hx hb dL_law_2705 rfl (lv_at hl 1 rfl) ?_
        refine lv_aload_n hx hb dL_law_2706 rfl (lv_at hl 0 rfl) ?_
        refine lv_iload hx hb dL_law_2707 (lv_at hl 4 rfl) ?_
        refine lv_iconst (v := 1) hx hb dL_law_2709 (by decide) ?_
        refine lv_iadd hx hb dL_law_2710 ?_
        obtain ⟨hc223, hs⟩ := ww_chk hs
        refine va_sld hx hb hX hbl hbA hW.2.2.1 hc223 dL_law_2711 ?_
        refine lv_aload_n hx hb dL_law_2712 rfl (lv_at hl 0 rfl) ?_
        refine lv_iload hx hb dL_law_2713 (lv_at hl 4 rfl) ?_
        refine lv_iconst (v := 2) hx hb dL_law_2715 (by decide) ?_
        refine lv_iadd hx hb dL_law_2716 ?_
        obtain ⟨hc224, hs⟩ := ww_chk hs
        refine va_sld hx hb hX hbl hbA hW.2.2.1 hc224 dL_law_2717 ?_
        refine lv_aload_n hx hb dL_law_2718 rfl (lv_at hl 3 rfl) ?_
        obtain ⟨v227, σ228, hc225, hs⟩ := ww_bn2 hs
        have hp229 : pr σ 1 0 := (pr_st (hW.rd hgm) (Nat.le_of_ble_eq_true rfl))
        have hp230 : pr σ 109 0 := (pr_st (hW.rd hgm) (Nat.le_of_ble_eq_true rfl))
        obtain ⟨hc231, hs⟩ := ww_chk hs
        have hp232 : pr σ 100 0 := (pr_dy hc231 rfl rfl)
        obtain ⟨hc233, hs⟩ := ww_chk hs
        obtain ⟨hs, hck⟩ := ww_ck2 hs
        have hrm1 := le2_ (hcs.roomC hc233 hck) hRc
        refine wa_ci (vx_runSW (As := [.ref (L 1 0), .int (xs (x4 + (1 : Int32)).toNatClampNeg), .int (xs (x4 + (2 : Int32)).toNatClampNeg), .ref (L 100 0)]) (rest := []) ⟨hx, hb, hml, hown, hts⟩ (c_X0_wind g hgm l L σ (xs (x4 + (1 : Int32)).toNatClampNeg) (xs (x4 + (2 : Int32)).toNatClampNeg) hst _ _ hc225) (vx_cwSW 4 hts (lw_SW q1554 q1555 q110 q1556) rfl rfl rfl hd_X0_wind.2 ⟨(Nat.le_of_ble_eq_true rfl), (Nat.le_of_ble_eq_true rfl)⟩) (ww_preS hW) rfl rfl hl.1 rfl (lv_room (Nat.le_of_ble_eq_true rfl)) dL_law_2719 hrm1) hW (fun H locs L hx1 hW => ?_)
        have hc234 : 0 < gN_ σ228 100 := Nat.lt_of_lt_of_le hc231 (hx1.2.1 100)
        have hcs := hcs.call hc233
        have hrm := hrm1
        have hl : lv_has ls 7 [(0, .ref b), (1, .ref (L 1 0)), (2, .ref (L 109 0)), (3, .ref (L 100 0)), (4, .int x4)] := by rw [hx1.at hp229 (by decide), hx1.at hp230 (by decide), hx1.at hp232 (by decide)]; exact hl
        have hx0 := hx0.trans hx1
        refine lv_istore (lv' := [(5, .int v227), (0, .ref b), (1, .ref (L 1 0)), (2, .ref (L 109 0)), (3, .ref (L 100 0)), (4, .int x4)]) hx hb dL_law_2722 hl (by decide) rfl (fun ls hl => ?_)
        refine lv_aload_n hx hb dL_law_2724 rfl (lv_at hl 3 rfl) ?_
        refine lv_aload_n hx hb dL_law_2725 rfl (lv_at hl 1 rfl) ?_
        refine lv_iload hx hb dL_law_2726 (lv_at hl 5 rfl) ?_
        refine lv_iconst (v := 1) hx hb dL_law_2728 (by decide) ?_
        refine lv_iadd hx hb dL_law_2729 ?_
        refine va_sld hx hb hX hbl hbA hW.2.2.1 hc223 dL_law_2730 ?_
        refine lv_aload_n hx hb dL_law_2731 rfl (lv_at hl 1 rfl) ?_
        refine lv_iload hx hb dL_law_2732 (lv_at hl 5 rfl) ?_
        refine lv_iconst (v := 2) hx hb dL_law_2734 (by decide) ?_
        refine lv_iadd hx hb dL_law_2735 ?_
        refine va_sld hx hb hX hbl hbA hW.2.2.1 hc224 dL_law_2736 ?_
        obtain ⟨v237, σ238, hc235, hs⟩ := ww_bn2 hs
        obtain ⟨hkp, hs⟩ := ww_pif hs
        obtain ⟨hx0, hcs⟩ := lx_s hx0 hcs hkp
        refine ww_ci (va_runV (As := [.int (xs (x4 + (1 : Int32)).toNatClampNeg), .int (xs (x4 + (2 : Int32)).toNatClampNeg)]) (rest := []) ⟨hx, hb, hml, hown, hts⟩ (c_X10_wind g hgm l L σ228 (xs (x4 + (1 : Int32)).toNatClampNeg) (xs (x4 + (2 : Int32)).toNatClampNeg) _ _ hc235) (cwV 2 hts (lw_V q2434 q2435 q2436 q123 q2437) rfl rfl rfl hd_X10_wind ⟨(Nat.le_of_ble_eq_true rfl), (Nat.le_of_ble_eq_true rfl)⟩) (ww_preV hW (pr_st (hW.rd hgm) (Nat.le_of_ble_eq_true rfl)) (obv_0 rfl) rfl) rfl rfl hl.1 rfl (lv_room (Nat.le_of_ble_eq_true rfl)) dL_law_2737 hrm) hW (fun H locs hW => ?_)
        have hc239 : 0 < gN_ σ238 100 := by rw [hkp.1]; exact hc234
        refine lv_istore (lv' := [(6, .int v237), (5, .int v227), (0, .ref b), (1, .ref (L 1 0)), (2, .ref (L 109 0)), (3, .ref (L 100 0)), (4, .int x4)]) hx hb dL_law_2740 hl (by decide) rfl (fun ls hl => ?_)
        refine lv_aload_n hx hb dL_law_2742 rfl (lv_at hl 4 rfl) ?_
        obtain ⟨v242, hc240, hs⟩ := ww_bnd hs
        refine ww_ci (va_runV (As := []) (rest := []) ⟨hx, hb, hml, hown, hts⟩ (c_X10_thrown g hgm l L σ238  _ hc240) (cwV 0 hts (lw_V q1671 q1672 q1673 q123 q1674) rfl rfl rfl hd_X10_thrown ⟨(Nat.le_of_ble_eq_true rfl), (Nat.le_of_ble_eq_true rfl)⟩) (ww_preV hW (pr_st (hW.rd hgm) (Nat.le_of_ble_eq_true rfl)) (obv_0 rfl) rfl) rfl rfl hl.1 rfl (lv_room (Nat.le_of_ble_eq_true rfl)) dL_law_2743 hrm) hW (fun H locs hW => ?_)
        refine lv_iload hx hb dL_law_2746 (lv_at hl 1 rfl) ?_
        refine lv_icmp_eq (tgt := 2753) hx hb dL_law_2748 (by decide) (fun hc243 => ?_) (fun hc243 => ?_)
        · have hs := ww_T hs hc243
          refine lv_iload hx hb dL_law_2753 (lv_at hl 1 rfl) ?_
          refine lv_if_ne (tgt := 2770) hx hb dL_law_2755 (by decide) (fun hc244 => ?_) (fun hc244 => ?_)
          · have hs := ww_F hs hc244
            exact hL2770 L σ238 x4 _ _ _ _ ls hx0 hcs hrm hW (lv_sub hl [2, 3, 4, 5, 6] rfl) hs
          · have hs := ww_T hs hc244
            refine lv_aload_n hx hb dL_law_2758 rfl (lv_at hl 5 rfl) ?_
            refine lv_iconst (v := 0) hx hb dL_law_2759 (by decide) ?_
            refine ww_lald hx hb hW (pr_dy hc239 rfl rfl) (j := (0 : Int32)) (vin_lit rfl) dL_law_2760 ?_
            refine lv_iload hx hb dL_law_2761 (lv_at hl 0 rfl) ?_
            refine lv_i2l hx hb dL_law_2763 rfl ?_
            refine W.lcmp hx hb dL_law_2764 ?_
            refine lv_if_eq (tgt := 2770) hx hb dL_law_2765 (by decide) (fun hc245 => ?_) (fun hc245 => ?_)
            · have hs := ww_T hs hc245
              exact hL2770 L σ238 x4 _ _ _ _ ls hx0 hcs hrm hW (lv_sub hl [2, 3, 4, 5, 6] rfl) hs
            · have hs := ww_F hs hc245
              refine lv_iconst (v := 0) hx hb dL_law_2768 (by decide) ?_
              have hs := ww_S hs
              exact wl_ret hx hb hr hlocks hW hsz hrm (congrArg Prod.fst hs) hr1 dL_law_2769
        · have hs := ww_F hs hc243
          refine lv_iconst (v := 0) hx hb dL_law_2751 (by decide) ?_
          have hs := ww_S hs
          exact wl_ret hx hb hr hlocks hW hsz hrm (congrArg Prod.fst hs) hr1 dL_law_2752
      have hL2625 : ∀ (L : ly_T) (σ : st_T) (x4 : Int32) (H : Heap) (locs : List Loc) (cells slots : Nat) (ls : Array Slot), lext L0 σ0 L σ → bk σ0 σ cells slots → (cells ≤ 1200384 ∧ slots ≤ 5487786) → wv g L σ s H locs → lv_has ls 7 [(0, .ref b), (1, .ref (L 1 0)), (2, .ref (L 109 0)), (3, .ref (L 100 0)), (4, .int x4)] → (m_L_law_L2625 N xs (m_L_law_L3445 N xs (m_L_law_L23 N xs n23))) σ x4 = some (r_, σ_) → W p l e (room_1) s m #[Value.ref b] below meth c H locs cells slots (lw_Z below #[Value.ref b] s) (F0 m 2625 ls []) := by
        have hL2702 : ∀ (L : ly_T) (σ : st_T) (x4 : Int32) (H : Heap) (locs : List Loc) (cells slots : Nat) (ls : Array Slot), lext L0 σ0 L σ → bk σ0 σ cells slots → (cells ≤ 1200384 ∧ slots ≤ 5487786) → wv g L σ s H locs → lv_has ls 7 [(0, .ref b), (1, .ref (L 1 0)), (2, .ref (L 109 0)), (3, .ref (L 100 0)), (4, .int x4)] → (m_L_law_L2702 N xs (m_L_law_L3445 N xs (m_L_law_L23 N xs n23))) σ x4 = some (r_, σ_) → W p l e (room_1) s m #[Value.ref b] below meth c H locs cells slots (lw_Z below #[Value.ref b] s) (F0 m 2702 ls []) := by
          intro L σ x4 H locs cells slots ls hx0 hcs hrm hW hl hs
          unfold m_L_law_L2702 at hs
          refine lv_goto (tgt := 3445) hx hb dL_law_2702 (by decide) ?_
          exact hL3445 L σ x4 _ _ _ _ ls hx0 hcs hrm hW (lv_sub hl [0, 1, 2, 3, 4] rfl) hs
        intro L σ x4 H locs cells slots ls hx0 hcs hrm hW hl hs
        unfold m_L_law_L2625 at hs
        refine lv_aload_n hx hb dL_law_2625 rfl (lv_at hl 1 rfl) ?_
        refine lv_aload_n hx hb dL_law_2626 rfl (lv_at hl 0 rfl) ?_
        refine lv_iload hx hb dL_law_2627 (lv_at hl 4 rfl) ?_
        refine lv_iconst (v := 1) hx hb dL_law_2629 (by decide) ?_
        refine lv_iadd hx hb dL_law_2630 ?_
        obtain ⟨hc246, hs⟩ := ww_chk hs
        refine va_sld hx hb hX hbl hbA hW.2.2.1 hc246 dL_law_2631 ?_
        refine lv_aload_n hx hb dL_law_2632 rfl (lv_at hl 0 rfl) ?_
        refine lv_iload hx hb dL_law_2633 (lv_at hl 4 rfl) ?_
        refine lv_iconst (v := 2) hx hb dL_law_2635 (by decide) ?_
        refine lv_iadd hx hb dL_law_2636 ?_
        obtain ⟨hc247, hs⟩ := ww_chk hs
        refine va_sld hx hb hX hbl hbA hW.2.2.1 hc247 dL_law_2637 ?_
        refine lv_aload_n hx hb dL_law_2638 rfl (lv_at hl 0 rfl) ?_
        refine lv_iload hx hb dL_law_2639 (lv_at hl 4 rfl) ?_
        refine lv_iconst (v := 3) hx hb dL_law_2641 (by decide) ?_
        refine lv_iadd hx hb dL_law_2642 ?_
        obtain ⟨hc248, hs⟩ := ww_chk hs
        refine va_sld hx hb hX hbl hbA hW.2.2.1 hc248 dL_law_2643 ?_
        refine lv_aload_n hx hb dL_law_2644 rfl (lv_at hl 3 rfl) ?_
        obtain ⟨v251, σ252, hc249, hs⟩ := ww_bn2 hs
        have hp253 : pr σ 1 0 := (pr_st (hW.rd hgm) (Nat.le_of_ble_eq_true rfl))
        have hp254 : pr σ 109 0 := (pr_st (hW.rd hgm) (Nat.le_of_ble_eq_true rfl))
        obtain ⟨hc255, hs⟩ := ww_chk hs
        have hp256 : pr σ 100 0 := (pr_dy hc255 rfl rfl)
        obtain ⟨hc257, hs⟩ := ww_chk hs
        obtain ⟨hs, hck⟩ := ww_ck2 hs
        have hrm1 := le2_ (hcs.roomC hc257 hck) hRc
        refine wa_ci (vx_runSW (As := [.ref (L 1 0), .int (xs (x4 + (1 : Int32)).toNatClampNeg), .int (xs (x4 + (2 : Int32)).toNatClampNeg), .int (xs (x4 + (3 : Int32)).toNatClampNeg), .ref (L 100 0)]) (rest := []) ⟨hx, hb, hml, hown, hts⟩ (c_X0_wire g hgm l L σ (xs (x4 + (1 : Int32)).toNatClampNeg) (xs (x4 + (2 : Int32)).toNatClampNeg) (xs (x4 + (3 : Int32)).toNatClampNeg) hst _ _ hc249) (vx_cwSW 5 hts (lw_SW q1528 q1529 q110 q1530) rfl rfl rfl hd_X0_wire.2 ⟨(Nat.le_of_ble_eq_true rfl), (Nat.le_of_ble_eq_true rfl)⟩) (ww_preS hW) rfl rfl hl.1 rfl (lv_room (Nat.le_of_ble_eq_true rfl)) dL_law_2645 hrm1) hW (fun H locs L hx1 hW => ?_)
        have hc258 : 0 < gN_ σ252 100 := Nat.lt_of_lt_of_le hc255 (hx1.2.1 100)
        have hcs := hcs.call hc257
        have hrm := hrm1
        have hl : lv_has ls 7 [(0, .ref b), (1, .ref (L 1 0)), (2, .ref (L 109 0)), (3, .ref (L 100 0)), (4, .int x4)] := by rw [hx1.at hp253 (by decide), hx1.at hp254 (by decide), hx1.at hp256 (by decide)]; exact hl
        have hx0 := hx0.trans hx1
        refine lv_istore (lv' := [(5, .int v251), (0, .ref b), (1, .ref (L 1 0)), (2, .ref (L 109 0)), (3, .ref (L 100 0)), (4, .int x4)]) hx hb dL_law_2648 hl (by decide) rfl (fun ls hl => ?_)
        refine lv_aload_n hx hb dL_law_2650 rfl (lv_at hl 3 rfl) ?_
        refine lv_aload_n hx hb dL_law_2651 rfl (lv_at hl 1 rfl) ?_
        refine lv_iload hx hb dL_law_2652 (lv_at hl 5 rfl) ?_
        refine lv_iconst (v := 1) hx hb dL_law_2654 (by decide) ?_
        refine lv_iadd hx hb dL_law_2655 ?_
        refine va_sld hx hb hX hbl hbA hW.2.2.1 hc246 dL_law_2656 ?_
        refine lv_aload_n hx hb dL_law_2657 rfl (lv_at hl 1 rfl) ?_
        refine lv_iload hx hb dL_law_2658 (lv_at hl 5 rfl) ?_
        refine lv_iconst (v := 2) hx hb dL_law_2660 (by decide) ?_
        refine lv_iadd hx hb dL_law_2661 ?_
        refine va_sld hx hb hX hbl hbA hW.2.2.1 hc247 dL_law_2662 ?_
        refine lv_aload_n hx hb dL_law_2663 rfl (lv_at hl 1 rfl) ?_
        refine lv_iload hx hb dL_law_2664 (lv_at hl 5 rfl) ?_
        refine lv_iconst (v := 3) hx hb dL_law_2666 (by decide) ?_
        refine lv_iadd hx hb dL_law_2667 ?_
        refine va_sld hx hb hX hbl hbA hW.2.2.1 hc248 dL_law_2668 ?_
        obtain ⟨v261, σ262, hc259, hs⟩ := ww_bn2 hs
        obtain ⟨hkp, hs⟩ := ww_pif hs
        obtain ⟨hx0, hcs⟩ := lx_s hx0 hcs hkp
        refine ww_ci (va_runV (As := [.int (xs (x4 + (1 : Int32)).toNatClampNeg), .int (xs (x4 + (2 : Int32)).toNatClampNeg), .int (xs (x4 + (3 : Int32)).toNatClampNeg)]) (rest := []) ⟨hx, hb, hml, hown, hts⟩ (c_X10_wire g hgm l L σ252 (xs (x4 + (1 : Int32)).toNatClampNeg) (xs (x4 + (2 : Int32)).toNatClampNeg) (xs (x4 + (3 : Int32)).toNatClampNeg) _ _ hc259) (cwV 3 hts (lw_V q2430 q2431 q2432 q123 q2433) rfl rfl rfl hd_X10_wire ⟨(Nat.le_of_ble_eq_true rfl), (Nat.le_of_ble_eq_true rfl)⟩) (ww_preV hW (pr_st (hW.rd hgm) (Nat.le_of_ble_eq_true rfl)) (obv_0 rfl) rfl) rfl rfl hl.1 rfl (lv_room (Nat.le_of_ble_eq_true rfl)) dL_law_2669 hrm) hW (fun H locs hW => ?_)
        have hc263 : 0 < gN_ σ262 100 := by rw [hkp.1]; exact hc258
        refine lv_istore (lv' := [(6, .int v261), (5, .int v251), (0, .ref b), (1, .ref (L 1 0)), (2, .ref (L 109 0)), (3, .ref (L 100 0)), (4, .int x4)]) hx hb dL_law_2672 hl (by decide) rfl (fun ls hl => ?_)
        refine lv_aload_n hx hb dL_law_2674 rfl (lv_at hl 4 rfl) ?_
        obtain ⟨v266, hc264, hs⟩ := ww_bnd hs
        refine ww_ci (va_runV (As := []) (rest := []) ⟨hx, hb, hml, hown, hts⟩ (c_X10_thrown g hgm l L σ262  _ hc264) (cwV 0 hts (lw_V q1671 q1672 q1673 q123 q1674) rfl rfl rfl hd_X10_thrown ⟨(Nat.le_of_ble_eq_true rfl), (Nat.le_of_ble_eq_true rfl)⟩) (ww_preV hW (pr_st (hW.rd hgm) (Nat.le_of_ble_eq_true rfl)) (obv_0 rfl) rfl) rfl rfl hl.1 rfl (lv_room (Nat.le_of_ble_eq_true rfl)) dL_law_2675 hrm) hW (fun H locs hW => ?_)
        refine lv_iload hx hb dL_law_2678 (lv_at hl 1 rfl) ?_
        refine lv_icmp_eq (tgt := 2685) hx hb dL_law_2680 (by decide) (fun hc267 => ?_) (fun hc267 => ?_)
        · have hs := ww_T hs hc267
          refine lv_iload hx hb dL_law_2685 (lv_at hl 1 rfl) ?_
          refine lv_if_ne (tgt := 2702) hx hb dL_law_2687 (by decide) (fun hc268 => ?_) (fun hc268 => ?_)
          · have hs := ww_F hs hc268
            exact hL2702 L σ262 x4 _ _ _ _ ls hx0 hcs hrm hW (lv_sub hl [2, 3, 4, 5, 6] rfl) hs
          · have hs := ww_T hs hc268
            refine lv_aload_n hx hb dL_law_2690 rfl (lv_at hl 5 rfl) ?_
            refine lv_iconst (v := 0) hx hb dL_law_2691 (by decide) ?_
            refine ww_lald hx hb hW (pr_dy hc263 rfl rfl) (j := (0 : Int32)) (vin_lit rfl) dL_law_2692 ?_
            refine lv_iload hx hb dL_law_2693 (lv_at hl 0 rfl) ?_
            refine lv_i2l hx hb dL_law_2695 rfl ?_
            refine W.lcmp hx hb dL_law_2696 ?_
            refine lv_if_eq (tgt := 2702) hx hb dL_law_2697 (by decide) (fun hc269 => ?_) (fun hc269 => ?_)
            · have hs := ww_T hs hc269
              exact hL2702 L σ262 x4 _ _ _ _ ls hx0 hcs hrm hW (lv_sub hl [2, 3, 4, 5, 6] rfl) hs
            · have hs := ww_F hs hc269
              refine lv_iconst (v := 0) hx hb dL_law_2700 (by decide) ?_
              have hs := ww_S hs
              exact wl_ret hx hb hr hlocks hW hsz hrm (congrArg Prod.fst hs) hr1 dL_law_2701
        · have hs := ww_F hs hc267
          refine lv_iconst (v := 0) hx hb dL_law_2683 (by decide) ?_
          have hs := ww_S hs
          exact wl_ret hx hb hr hlocks hW hsz hrm (congrArg Prod.fst hs) hr1 dL_law_2684
      have hL2557 : ∀ (L : ly_T) (σ : st_T) (x4 : Int32) (H : Heap) (locs : List Loc) (cells slots : Nat) (ls : Array Slot), lext L0 σ0 L σ → bk σ0 σ cells slots → (cells ≤ 1200384 ∧ slots ≤ 5487786) → wv g L σ s H locs → lv_has ls 7 [(0, .ref b), (1, .ref (L 1 0)), (2, .ref (L 109 0)), (3, .ref (L 100 0)), (4, .int x4)] → (m_L_law_L2557 N xs (m_L_law_L3445 N xs (m_L_law_L23 N xs n23))) σ x4 = some (r_, σ_) → W p l e (room_1) s m #[Value.ref b] below meth c H locs cells slots (lw_Z below #[Value.ref b] s) (F0 m 2557 ls []) := by
        have hL2622 : ∀ (L : ly_T) (σ : st_T) (x4 : Int32) (H : Heap) (locs : List Loc) (cells slots : Nat) (ls : Array Slot), lext L0 σ0 L σ → bk σ0 σ cells slots → (cells ≤ 1200384 ∧ slots ≤ 5487786) → wv g L σ s H locs → lv_has ls 7 [(0, .ref b), (1, .ref (L 1 0)), (2, .ref (L 109 0)), (3, .ref (L 100 0)), (4, .int x4)] → (m_L_law_L2622 N xs (m_L_law_L3445 N xs (m_L_law_L23 N xs n23))) σ x4 = some (r_, σ_) → W p l e (room_1) s m #[Value.ref b] below meth c H locs cells slots (lw_Z below #[Value.ref b] s) (F0 m 2622 ls []) := by
          intro L σ x4 H locs cells slots ls hx0 hcs hrm hW hl hs
          unfold m_L_law_L2622 at hs
          refine lv_goto (tgt := 3445) hx hb dL_law_2622 (by decide) ?_
          exact hL3445 L σ x4 _ _ _ _ ls hx0 hcs hrm hW (lv_sub hl [0, 1, 2, 3, 4] rfl) hs
        intro L σ x4 H locs cells slots ls hx0 hcs hrm hW hl hs
        unfold m_L_law_L2557 at hs
        refine lv_aload_n hx hb dL_law_2557 rfl (lv_at hl 1 rfl) ?_
        refine lv_aload_n hx hb dL_law_2558 rfl (lv_at hl 0 rfl) ?_
        refine lv_iload hx hb dL_law_2559 (lv_at hl 4 rfl) ?_
        refine lv_iconst (v := 1) hx hb dL_law_2561 (by decide) ?_
        refine lv_iadd hx hb dL_law_2562 ?_
        obtain ⟨hc270, hs⟩ := ww_chk hs
        refine va_sld hx hb hX hbl hbA hW.2.2.1 hc270 dL_law_2563 ?_
        refine lv_aload_n hx hb dL_law_2564 rfl (lv_at hl 0 rfl) ?_
        refine lv_iload hx hb dL_law_2565 (lv_at hl 4 rfl) ?_
        refine lv_iconst (v := 2) hx hb dL_law_2567 (by decide) ?_
        refine lv_iadd hx hb dL_law_2568 ?_
        obtain ⟨hc271, hs⟩ := ww_chk hs
        refine va_sld hx hb hX hbl hbA hW.2.2.1 hc271 dL_law_2569 ?_
        refine lv_aload_n hx hb dL_law_2570 rfl (lv_at hl 3 rfl) ?_
        obtain ⟨v274, σ275, hc272, hs⟩ := ww_bn2 hs
        have hp276 : pr σ 1 0 := (pr_st (hW.rd hgm) (Nat.le_of_ble_eq_true rfl))
        have hp277 : pr σ 109 0 := (pr_st (hW.rd hgm) (Nat.le_of_ble_eq_true rfl))
        obtain ⟨hc278, hs⟩ := ww_chk hs
        have hp279 : pr σ 100 0 := (pr_dy hc278 rfl rfl)
        obtain ⟨hc280, hs⟩ := ww_chk hs
        obtain ⟨hs, hck⟩ := ww_ck2 hs
        have hrm1 := le2_ (hcs.roomC hc280 hck) hRc
        refine wa_ci (vx_runSW (As := [.ref (L 1 0), .int (xs (x4 + (1 : Int32)).toNatClampNeg), .int (xs (x4 + (2 : Int32)).toNatClampNeg), .ref (L 100 0)]) (rest := []) ⟨hx, hb, hml, hown, hts⟩ (c_X0_spots g hgm l L σ (xs (x4 + (1 : Int32)).toNatClampNeg) (xs (x4 + (2 : Int32)).toNatClampNeg) hst _ _ hc272) (vx_cwSW 4 hts (lw_SW q1521 q1522 q110 q1523) rfl rfl rfl hd_X0_spots.2 ⟨(Nat.le_of_ble_eq_true rfl), (Nat.le_of_ble_eq_true rfl)⟩) (ww_preS hW) rfl rfl hl.1 rfl (lv_room (Nat.le_of_ble_eq_true rfl)) dL_law_2571 hrm1) hW (fun H locs L hx1 hW => ?_)
        have hc281 : 0 < gN_ σ275 100 := Nat.lt_of_lt_of_le hc278 (hx1.2.1 100)
        have hcs := hcs.call hc280
        have hrm := hrm1
        have hl : lv_has ls 7 [(0, .ref b), (1, .ref (L 1 0)), (2, .ref (L 109 0)), (3, .ref (L 100 0)), (4, .int x4)] := by rw [hx1.at hp276 (by decide), hx1.at hp277 (by decide), hx1.at hp279 (by decide)]; exact hl
        have hx0 := hx0.trans hx1
        refine lv_istore (lv' := [(5, .int v274), (0, .ref b), (1, .ref (L 1 0)), (2, .ref (L 109 0)), (3, .ref (L 100 0)), (4, .int x4)]) hx hb dL_law_2574 hl (by decide) rfl (fun ls hl => ?_)
        refine lv_aload_n hx hb dL_law_2576 rfl (lv_at hl 3 rfl) ?_
        refine lv_aload_n hx hb dL_law_2577 rfl (lv_at hl 1 rfl) ?_
        refine lv_iload hx hb dL_law_2578 (lv_at hl 5 rfl) ?_
        refine lv_iconst (v := 1) hx hb dL_law_2580 (by decide) ?_
        refine lv_iadd hx hb dL_law_2581 ?_
        refine va_sld hx hb hX hbl hbA hW.2.2.1 hc270 dL_law_2582 ?_
        refine lv_aload_n hx hb dL_law_2583 rfl (lv_at hl 1 rfl) ?_
        refine lv_iload hx hb dL_law_2584 (lv_at hl 5 rfl) ?_
        refine lv_iconst (v := 2) hx hb dL_law_2586 (by decide) ?_
        refine lv_iadd hx hb dL_law_2587 ?_
        refine va_sld hx hb hX hbl hbA hW.2.2.1 hc271 dL_law_2588 ?_
        obtain ⟨v284, σ285, hc282, hs⟩ := ww_bn2 hs
        obtain ⟨hkp, hs⟩ := ww_pif hs
        obtain ⟨hx0, hcs⟩ := lx_s hx0 hcs hkp
        refine ww_ci (va_runV (As := [.int (xs (x4 + (1 : Int32)).toNatClampNeg), .int (xs (x4 + (2 : Int32)).toNatClampNeg)]) (rest := []) ⟨hx, hb, hml, hown, hts⟩ (c_X10_spots g hgm l L σ275 (xs (x4 + (1 : Int32)).toNatClampNeg) (xs (x4 + (2 : Int32)).toNatClampNeg) _ _ hc282) (cwV 2 hts (lw_V q2426 q2427 q2428 q123 q2429) rfl rfl rfl hd_X10_spots ⟨(Nat.le_of_ble_eq_true rfl), (Nat.le_of_ble_eq_true rfl)⟩) (ww_preV hW (pr_st (hW.rd hgm) (Nat.le_of_ble_eq_true rfl)) (obv_0 rfl) rfl) rfl rfl hl.1 rfl (lv_room (Nat.le_of_ble_eq_true rfl)) dL_law_2589 hrm) hW (fun H locs hW => ?_)
        have hc286 : 0 < gN_ σ285 100 := by rw [hkp.1]; exact hc281
        refine lv_istore (lv' := [(6, .int v284), (5, .int v274), (0, .ref b), (1, .ref (L 1 0)), (2, .ref (L 109 0)), (3, .ref (L 100 0)), (4, .int x4)]) hx hb dL_law_2592 hl (by decide) rfl (fun ls hl => ?_)
        refine lv_aload_n hx hb dL_law_2594 rfl (lv_at hl 4 rfl) ?_
        obtain ⟨v289, hc287, hs⟩ := ww_bnd hs
        refine ww_ci (va_runV (As := []) (rest := []) ⟨hx, hb, hml, hown, hts⟩ (c_X10_thrown g hgm l L σ285  _ hc287) (cwV 0 hts (lw_V q1671 q1672 q1673 q123 q1674) rfl rfl rfl hd_X10_thrown ⟨(Nat.le_of_ble_eq_true rfl), (Nat.le_of_ble_eq_true rfl)⟩) (ww_preV hW (pr_st (hW.rd hgm) (Nat.le_of_ble_eq_true rfl)) (obv_0 rfl) rfl) rfl rfl hl.1 rfl (lv_room (Nat.le_of_ble_eq_true rfl)) dL_law_2595 hrm) hW (fun H locs hW => ?_)
        refine lv_iload hx hb dL_law_2598 (lv_at hl 1 rfl) ?_
        refine lv_icmp_eq (tgt := 2605) hx hb dL_law_2600 (by decide) (fun hc290 => ?_) (fun hc290 => ?_)
        · have hs := ww_T hs hc290
          refine lv_iload hx hb dL_law_2605 (lv_at hl 1 rfl) ?_
          refine lv_if_ne (tgt := 2622) hx hb dL_law_2607 (by decide) (fun hc291 => ?_) (fun hc291 => ?_)
          · have hs := ww_F hs hc291
            exact hL2622 L σ285 x4 _ _ _ _ ls hx0 hcs hrm hW (lv_sub hl [2, 3, 4, 5, 6] rfl) hs
          · have hs := ww_T hs hc291
            refine lv_aload_n hx hb dL_law_2610 rfl (lv_at hl 5 rfl) ?_
            refine lv_iconst (v := 0) hx hb dL_law_2611 (by decide) ?_
            refine ww_lald hx hb hW (pr_dy hc286 rfl rfl) (j := (0 : Int32)) (vin_lit rfl) dL_law_2612 ?_
            refine lv_iload hx hb dL_law_2613 (lv_at hl 0 rfl) ?_
            refine lv_i2l hx hb dL_law_2615 rfl ?_
            refine W.lcmp hx hb dL_law_2616 ?_
            refine lv_if_eq (tgt := 2622) hx hb dL_law_2617 (by decide) (fun hc292 => ?_) (fun hc292 => ?_)
            · have hs := ww_T hs hc292
              exact hL2622 L σ285 x4 _ _ _ _ ls hx0 hcs hrm hW (lv_sub hl [2, 3, 4, 5, 6] rfl) hs
            · have hs := ww_F hs hc292
              refine lv_iconst (v := 0) hx hb dL_law_2620 (by decide) ?_
              have hs := ww_S hs
              exact wl_ret hx hb hr hlocks hW hsz hrm (congrArg Prod.fst hs) hr1 dL_law_2621
        · have hs := ww_F hs hc290
          refine lv_iconst (v := 0) hx hb dL_law_2603 (by decide) ?_
          have hs := ww_S hs
          exact wl_ret hx hb hr hlocks hW hsz hrm (congrArg Prod.fst hs) hr1 dL_law_2604
      have hL2470 : ∀ (L : ly_T) (σ : st_T) (x4 : Int32) (H : Heap) (locs : List Loc) (cells slots : Nat) (ls : Array Slot), lext L0 σ0 L σ → bk σ0 σ cells slots → (cells ≤ 1200384 ∧ slots ≤ 5487786) → wv g L σ s H locs → lv_has ls 7 [(0, .ref b), (1, .ref (L 1 0)), (2, .ref (L 109 0)), (3, .ref (L 100 0)), (4, .int x4)] → (m_L_law_L2470 N xs (m_L_law_L3445 N xs (m_L_law_L23 N xs n23))) σ x4 = some (r_, σ_) → W p l e (room_1) s m #[Value.ref b] below meth c H locs cells slots (lw_Z below #[Value.ref b] s) (F0 m 2470 ls []) := by
        have hL2554 : ∀ (L : ly_T) (σ : st_T) (x4 : Int32) (H : Heap) (locs : List Loc) (cells slots : Nat) (ls : Array Slot), lext L0 σ0 L σ → bk σ0 σ cells slots → (cells ≤ 1200384 ∧ slots ≤ 5487786) → wv g L σ s H locs → lv_has ls 7 [(0, .ref b), (1, .ref (L 1 0)), (2, .ref (L 109 0)), (3, .ref (L 100 0)), (4, .int x4)] → (m_L_law_L2554 N xs (m_L_law_L3445 N xs (m_L_law_L23 N xs n23))) σ x4 = some (r_, σ_) → W p l e (room_1) s m #[Value.ref b] below meth c H locs cells slots (lw_Z below #[Value.ref b] s) (F0 m 2554 ls []) := by
          intro L σ x4 H locs cells slots ls hx0 hcs hrm hW hl hs
          unfold m_L_law_L2554 at hs
          refine lv_goto (tgt := 3445) hx hb dL_law_2554 (by decide) ?_
          exact hL3445 L σ x4 _ _ _ _ ls hx0 hcs hrm hW (lv_sub hl [0, 1, 2, 3, 4] rfl) hs
        have hL2548 : ∀ (L : ly_T) (σ : st_T) (x4 : Int32) (t0 : Int64) (t1 : Int64) (H : Heap) (locs : List Loc) (cells slots : Nat) (ls : Array Slot), lext L0 σ0 L σ → bk σ0 σ cells slots → (cells ≤ 1200384 ∧ slots ≤ 5487786) → wv g L σ s H locs → lv_has ls 7 [(0, .ref b), (1, .ref (L 1 0)), (2, .ref (L 109 0)), (3, .ref (L 100 0)), (4, .int x4)] → (m_L_law_L2548 N xs (m_L_law_L2554 N xs (m_L_law_L3445 N xs (m_L_law_L23 N xs n23)))) σ x4 t0 t1 = some (r_, σ_) → W p l e (room_1) s m #[Value.ref b] below meth c H locs cells slots (lw_Z below #[Value.ref b] s) (F0 m 2548 ls [.long t1, .long t0]) := by
          intro L σ x4 t0 t1 H locs cells slots ls hx0 hcs hrm hW hl hs
          unfold m_L_law_L2548 at hs
          refine W.lcmp hx hb dL_law_2548 ?_
          refine lv_if_eq (tgt := 2554) hx hb dL_law_2549 (by decide) (fun hc293 => ?_) (fun hc293 => ?_)
          · have hs := ww_T hs hc293
            exact hL2554 L σ x4 _ _ _ _ ls hx0 hcs hrm hW (lv_sub hl [0, 1, 2, 3, 4] rfl) hs
          · have hs := ww_F hs hc293
            refine lv_iconst (v := 0) hx hb dL_law_2552 (by decide) ?_
            have hs := ww_S hs
            exact wl_ret hx hb hr hlocks hW hsz hrm (congrArg Prod.fst hs) hr1 dL_law_2553
        intro L σ x4 H locs cells slots ls hx0 hcs hrm hW hl hs
        unfold m_L_law_L2470 at hs
        refine lv_aload_n hx hb dL_law_2470 rfl (lv_at hl 1 rfl) ?_
        refine lv_aload_n hx hb dL_law_2471 rfl (lv_at hl 0 rfl) ?_
        refine lv_iload hx hb dL_law_2472 (lv_at hl 4 rfl) ?_
        refine lv_iconst (v := 1) hx hb dL_law_2474 (by decide) ?_
        refine lv_iadd hx hb dL_law_2475 ?_
        obtain ⟨hc294, hs⟩ := ww_chk hs
        refine va_sld hx hb hX hbl hbA hW.2.2.1 hc294 dL_law_2476 ?_
        refine lv_aload_n hx hb dL_law_2477 rfl (lv_at hl 0 rfl) ?_
        refine lv_iload hx hb dL_law_2478 (lv_at hl 4 rfl) ?_
        refine lv_iconst (v := 2) hx hb dL_law_2480 (by decide) ?_
        refine lv_iadd hx hb dL_law_2481 ?_
        obtain ⟨hc295, hs⟩ := ww_chk hs
        refine va_sld hx hb hX hbl hbA hW.2.2.1 hc295 dL_law_2482 ?_
        refine lv_aload_n hx hb dL_law_2483 rfl (lv_at hl 0 rfl) ?_
        refine lv_iload hx hb dL_law_2484 (lv_at hl 4 rfl) ?_
        refine lv_iconst (v := 3) hx hb dL_law_2486 (by decide) ?_
        refine lv_iadd hx hb dL_law_2487 ?_
        obtain ⟨hc296, hs⟩ := ww_chk hs
        refine va_sld hx hb hX hbl hbA hW.2.2.1 hc296 dL_law_2488 ?_
        refine lv_aload_n hx hb dL_law_2489 rfl (lv_at hl 3 rfl) ?_
        obtain ⟨v299, σ300, hc297, hs⟩ := ww_bn2 hs
        have hp301 : pr σ 1 0 := (pr_st (hW.rd hgm) (Nat.le_of_ble_eq_true rfl))
        have hp302 : pr σ 109 0 := (pr_st (hW.rd hgm) (Nat.le_of_ble_eq_true rfl))
        obtain ⟨hc303, hs⟩ := ww_chk hs
        have hp304 : pr σ 100 0 := (pr_dy hc303 rfl rfl)
        obtain ⟨hc305, hs⟩ := ww_chk hs
        obtain ⟨hs, hck⟩ := ww_ck2 hs
        have hrm1 := le2_ (hcs.roomC hc305 hck) hRc
        refine wa_ci (vx_runSW (As := [.ref (L 1 0), .int (xs (x4 + (1 : Int32)).toNatClampNeg), .int (xs (x4 + (2 : Int32)).toNatClampNeg), .int (xs (x4 + (3 : Int32)).toNatClampNeg), .ref (L 100 0)]) (rest := []) ⟨hx, hb, hml, hown, hts⟩ (c_X0_mayBe g hgm l L σ (xs (x4 + (1 : Int32)).toNatClampNeg) (xs (x4 + (2 : Int32)).toNatClampNeg) (xs (x4 + (3 : Int32)).toNatClampNeg) hst _ _ hc297) (vx_cwSW 5 hts (lw_SW q1514 q1515 q110 q1516) rfl rfl rfl hd_X0_mayBe.2 ⟨(Nat.le_of_ble_eq_true rfl), (Nat.le_of_ble_eq_true rfl)⟩) (ww_preS hW) rfl rfl hl.1 rfl (lv_room (Nat.le_of_ble_eq_true rfl)) dL_law_2490 hrm1) hW (fun H locs L hx1 hW => ?_)
        have hc306 : 0 < gN_ σ300 100 := Nat.lt_of_lt_of_le hc303 (hx1.2.1 100)
        have hcs := hcs.call hc305
        have hrm := hrm1
        have hl : lv_has ls 7 [(0, .ref b), (1, .ref (L 1 0)), (2, .ref (L 109 0)), (3, .ref (L 100 0)), (4, .int x4)] := by rw [hx1.at hp301 (by decide), hx1.at hp302 (by decide), hx1.at hp304 (by decide)]; exact hl
        have hx0 := hx0.trans hx1
        refine lv_istore (lv' := [(5, .int v299), (0, .ref b), (1, .ref (L 1 0)), (2, .ref (L 109 0)), (3, .ref (L 100 0)), (4, .int x4)]) hx hb dL_law_2493 hl (by decide) rfl (fun ls hl => ?_)
        refine lv_aload_n hx hb dL_law_2495 rfl (lv_at hl 3 rfl) ?_
        refine lv_aload_n hx hb dL_law_2496 rfl (lv_at hl 1 rfl) ?_
        refine lv_iload hx hb dL_law_2497 (lv_at hl 5 rfl) ?_
        refine lv_iconst (v := 1) hx hb dL_law_2499 (by decide) ?_
        refine lv_iadd hx hb dL_law_2500 ?_
        refine va_sld hx hb hX hbl hbA hW.2.2.1 hc294 dL_law_2501 ?_
        refine lv_aload_n hx hb dL_law_2502 rfl (lv_at hl 1 rfl) ?_
        refine lv_iload hx hb dL_law_2503 (lv_at hl 5 rfl) ?_
        refine lv_iconst (v := 2) hx hb dL_law_2505 (by decide) ?_
        refine lv_iadd hx hb dL_law_2506 ?_
        refine va_sld hx hb hX hbl hbA hW.2.2.1 hc295 dL_law_2507 ?_
        refine lv_aload_n hx hb dL_law_2508 rfl (lv_at hl 1 rfl) ?_
        refine lv_iload hx hb dL_law_2509 (lv_at hl 5 rfl) ?_
        refine lv_iconst (v := 3) hx hb dL_law_2511 (by decide) ?_
        refine lv_iadd hx hb dL_law_2512 ?_
        refine va_sld hx hb hX hbl hbA hW.2.2.1 hc296 dL_law_2513 ?_
        obtain ⟨v309, σ310, hc307, hs⟩ := ww_bn2 hs
        obtain ⟨hkp, hs⟩ := ww_pif hs
        obtain ⟨hx0, hcs⟩ := lx_s hx0 hcs hkp
        refine ww_ci (va_runV (As := [.int (xs (x4 + (1 : Int32)).toNatClampNeg), .int (xs (x4 + (2 : Int32)).toNatClampNeg), .int (xs (x4 + (3 : Int32)).toNatClampNeg)]) (rest := []) ⟨hx, hb, hml, hown, hts⟩ (c_X10_mayBe g hgm l L σ300 (xs (x4 + (1 : Int32)).toNatClampNeg) (xs (x4 + (2 : Int32)).toNatClampNeg) (xs (x4 + (3 : Int32)).toNatClampNeg) _ _ hc307) (cwV 3 hts (lw_V q2418 q2419 q2420 q123 q2421) rfl rfl rfl hd_X10_mayBe ⟨(Nat.le_of_ble_eq_true rfl), (Nat.le_of_ble_eq_true rfl)⟩) (ww_preV hW (pr_st (hW.rd hgm) (Nat.le_of_ble_eq_true rfl)) (obv_0 rfl) rfl) rfl rfl hl.1 rfl (lv_room (Nat.le_of_ble_eq_true rfl)) dL_law_2514 hrm) hW (fun H locs hW => ?_)
        have hc311 : 0 < gN_ σ310 100 := by rw [hkp.1]; exact hc306
        refine lv_istore (lv' := [(6, .int v309), (5, .int v299), (0, .ref b), (1, .ref (L 1 0)), (2, .ref (L 109 0)), (3, .ref (L 100 0)), (4, .int x4)]) hx hb dL_law_2517 hl (by decide) rfl (fun ls hl => ?_)
        refine lv_aload_n hx hb dL_law_2519 rfl (lv_at hl 4 rfl) ?_
        obtain ⟨v314, hc312, hs⟩ := ww_bnd hs
        refine ww_ci (va_runV (As := []) (rest := []) ⟨hx, hb, hml, hown, hts⟩ (c_X10_thrown g hgm l L σ310  _ hc312) (cwV 0 hts (lw_V q1671 q1672 q1673 q123 q1674) rfl rfl rfl hd_X10_thrown ⟨(Nat.le_of_ble_eq_true rfl), (Nat.le_of_ble_eq_true rfl)⟩) (ww_preV hW (pr_st (hW.rd hgm) (Nat.le_of_ble_eq_true rfl)) (obv_0 rfl) rfl) rfl rfl hl.1 rfl (lv_room (Nat.le_of_ble_eq_true rfl)) dL_law_2520 hrm) hW (fun H locs hW => ?_)
        refine lv_iload hx hb dL_law_2523 (lv_at hl 1 rfl) ?_
        refine lv_icmp_eq (tgt := 2530) hx hb dL_law_2525 (by decide) (fun hc315 => ?_) (fun hc315 => ?_)
        · have hs := ww_T hs hc315
          refine lv_iload hx hb dL_law_2530 (lv_at hl 1 rfl) ?_
          refine lv_if_ne (tgt := 2554) hx hb dL_law_2532 (by decide) (fun hc316 => ?_) (fun hc316 => ?_)
          · have hs := ww_F hs hc316
            exact hL2554 L σ310 x4 _ _ _ _ ls hx0 hcs hrm hW (lv_sub hl [2, 3, 4, 5, 6] rfl) hs
          · have hs := ww_T hs hc316
            refine lv_aload_n hx hb dL_law_2535 rfl (lv_at hl 5 rfl) ?_
            refine lv_iconst (v := 0) hx hb dL_law_2536 (by decide) ?_
            refine ww_lald hx hb hW (pr_dy hc311 rfl rfl) (j := (0 : Int32)) (vin_lit rfl) dL_law_2537 ?_
            refine lv_iload hx hb dL_law_2538 (lv_at hl 0 rfl) ?_
            refine lv_if_eq (tgt := 2547) hx hb dL_law_2540 (by decide) (fun hc317 => ?_) (fun hc317 => ?_)
            · have hs := ww_T hs hc317
              refine lv_lconst (v := 0) hx hb dL_law_2547 (by decide) ?_
              exact hL2548 L σ310 x4 (gO_ σ310) (0 : Int64) _ _ _ _ ls hx0 hcs hrm hW (lv_sub hl [2, 3, 4, 5, 6] rfl) hs
            · have hs := ww_F hs hc317
              refine lv_lconst (v := 1) hx hb dL_law_2543 (by decide) ?_
              refine lv_goto (tgt := 2548) hx hb dL_law_2544 (by decide) ?_
              exact hL2548 L σ310 x4 (gO_ σ310) (1 : Int64) _ _ _ _ ls hx0 hcs hrm hW (lv_sub hl [2, 3, 4, 5, 6] rfl) hs
        · have hs := ww_F hs hc315
          refine lv_iconst (v := 0) hx hb dL_law_2528 (by decide) ?_
          have hs := ww_S hs
          exact wl_ret hx hb hr hlocks hW hsz hrm (congrArg Prod.fst hs) hr1 dL_law_2529
      have hL2390 : ∀ (L : ly_T) (σ : st_T) (x4 : Int32) (H : Heap) (locs : List Loc) (cells slots : Nat) (ls : Array Slot), lext L0 σ0 L σ → bk σ0 σ cells slots → (cells ≤ 1200384 ∧ slots ≤ 5487786) → wv g L σ s H locs → lv_has ls 7 [(0, .ref b), (1, .ref (L 1 0)), (2, .ref (L 109 0)), (3, .ref (L 100 0)), (4, .int x4)] → (m_L_law_L2390 N xs (m_L_law_L3445 N xs (m_L_law_L23 N xs n23))) σ x4 = some (r_, σ_) → W p l e (room_1) s m #[Value.ref b] below meth c H locs cells slots (lw_Z below #[Value.ref b] s) (F0 m 2390 ls []) := by
        have hL2467 : ∀ (L : ly_T) (σ : st_T) (x4 : Int32) (H : Heap) (locs : List Loc) (cells slots : Nat) (ls : Array Slot), lext L0 σ0 L σ → bk σ0 σ cells slots → (cells ≤ 1200384 ∧ slots ≤ 5487786) → wv g L σ s H locs → lv_has ls 7 [(0, .ref b), (1, .ref (L 1 0)), (2, .ref (L 109 0)), (3, .ref (L 100 0)), (4, .int x4)] → (m_L_law_L2467 N xs (m_L_law_L3445 N xs (m_L_law_L23 N xs n23))) σ x4 = some (r_, σ_) → W p l e (room_1) s m #[Value.ref b] below meth c H locs cells slots (lw_Z below #[Value.ref b] s) (F0 m 2467 ls []) := by
          intro L σ x4 H locs cells slots ls hx0 hcs hrm hW hl hs
          unfold m_L_law_L2467 at hs
          refine lv_goto (tgt := 3445) hx hb dL_law_2467 (by decide) ?_
          exact hL3445 L σ x4 _ _ _ _ ls hx0 hcs hrm hW (lv_sub hl [0, 1, 2, 3, 4] rfl) hs
        intro L σ x4 H locs cells slots ls hx0 hcs hrm hW hl hs
        unfold m_L_law_L2390 at hs
        refine lv_aload_n hx hb dL_law_2390 rfl (lv_at hl 1 rfl) ?_
        refine lv_aload_n hx hb dL_law_2391 rfl (lv_at hl 0 rfl) ?_
        refine lv_iload hx hb dL_law_2392 (lv_at hl 4 rfl) ?_
        refine lv_iconst (v := 1) hx hb dL_law_2394 (by decide) ?_
        refine lv_iadd hx hb dL_law_2395 ?_
        obtain ⟨hc318, hs⟩ := ww_chk hs
        refine va_sld hx hb hX hbl hbA hW.2.2.1 hc318 dL_law_2396 ?_
        refine lv_aload_n hx hb dL_law_2397 rfl (lv_at hl 0 rfl) ?_
        refine lv_iload hx hb dL_law_2398 (lv_at hl 4 rfl) ?_
        refine lv_iconst (v := 2) hx hb dL_law_2400 (by decide) ?_
        refine lv_iadd hx hb dL_law_2401 ?_
        obtain ⟨hc319, hs⟩ := ww_chk hs
        refine va_sld hx hb hX hbl hbA hW.2.2.1 hc319 dL_law_2402 ?_
        refine lv_aload_n hx hb dL_law_2403 rfl (lv_at hl 0 rfl) ?_
        refine lv_iload hx hb dL_law_2404 (lv_at hl 4 rfl) ?_
        refine lv_iconst (v := 3) hx hb dL_law_2406 (by decide) ?_
        refine lv_iadd hx hb dL_law_2407 ?_
        obtain ⟨hc320, hs⟩ := ww_chk hs
        refine va_sld hx hb hX hbl hbA hW.2.2.1 hc320 dL_law_2408 ?_
        refine lv_aload_n hx hb dL_law_2409 rfl (lv_at hl 3 rfl) ?_
        obtain ⟨v323, σ324, hc321, hs⟩ := ww_bn2 hs
        have hp325 : pr σ 1 0 := (pr_st (hW.rd hgm) (Nat.le_of_ble_eq_true rfl))
        have hp326 : pr σ 109 0 := (pr_st (hW.rd hgm) (Nat.le_of_ble_eq_true rfl))
        obtain ⟨hc327, hs⟩ := ww_chk hs
        have hp328 : pr σ 100 0 := (pr_dy hc327 rfl rfl)
        obtain ⟨hc329, hs⟩ := ww_chk hs
        obtain ⟨hs, hck⟩ := ww_ck2 hs
        have hrm1 := le2_ (hcs.roomC hc329 hck) hRc
        refine wa_ci (vx_runSW (As := [.ref (L 1 0), .int (xs (x4 + (1 : Int32)).toNatClampNeg), .int (xs (x4 + (2 : Int32)).toNatClampNeg), .int (xs (x4 + (3 : Int32)).toNatClampNeg), .ref (L 100 0)]) (rest := []) ⟨hx, hb, hml, hown, hts⟩ (c_X0_fix g hgm l L σ (xs (x4 + (1 : Int32)).toNatClampNeg) (xs (x4 + (2 : Int32)).toNatClampNeg) (xs (x4 + (3 : Int32)).toNatClampNeg) hst _ _ hc321) (vx_cwSW 5 hts (lw_SW q1486 q1487 q110 q1488) rfl rfl rfl hd_X0_fix.2 ⟨(Nat.le_of_ble_eq_true rfl), (Nat.le_of_ble_eq_true rfl)⟩) (ww_preS hW) rfl rfl hl.1 rfl (lv_room (Nat.le_of_ble_eq_true rfl)) dL_law_2410 hrm1) hW (fun H locs L hx1 hW => ?_)
        have hc330 : 0 < gN_ σ324 100 := Nat.lt_of_lt_of_le hc327 (hx1.2.1 100)
        have hcs := hcs.call hc329
        have hrm := hrm1
        have hl : lv_has ls 7 [(0, .ref b), (1, .ref (L 1 0)), (2, .ref (L 109 0)), (3, .ref (L 100 0)), (4, .int x4)] := by rw [hx1.at hp325 (by decide), hx1.at hp326 (by decide), hx1.at hp328 (by decide)]; exact hl
        have hx0 := hx0.trans hx1
        refine lv_istore (lv' := [(5, .int v323), (0, .ref b), (1, .ref (L 1 0)), (2, .ref (L 109 0)), (3, .ref (L 100 0)), (4, .int x4)]) hx hb dL_law_2413 hl (by decide) rfl (fun ls hl => ?_)
        refine lv_aload_n hx hb dL_law_2415 rfl (lv_at hl 3 rfl) ?_
        refine lv_aload_n hx hb dL_law_2416 rfl (lv_at hl 1 rfl) ?_
        refine lv_iload hx hb dL_law_2417 (lv_at hl 5 rfl) ?_
        refine lv_iconst (v := 1) hx hb dL_law_2419 (by decide) ?_
        refine lv_iadd hx hb dL_law_2420 ?_
        refine va_sld hx hb hX hbl hbA hW.2.2.1 hc318 dL_law_2421 ?_
        refine lv_aload_n hx hb dL_law_2422 rfl (lv_at hl 1 rfl) ?_
        refine lv_iload hx hb dL_law_2423 (lv_at hl 5 rfl) ?_
        refine lv_iconst (v := 2) hx hb dL_law_2425 (by decide) ?_
        refine lv_iadd hx hb dL_law_2426 ?_
        refine va_sld hx hb hX hbl hbA hW.2.2.1 hc319 dL_law_2427 ?_
        refine lv_aload_n hx hb dL_law_2428 rfl (lv_at hl 1 rfl) ?_
        refine lv_iload hx hb dL_law_2429 (lv_at hl 5 rfl) ?_
        refine lv_iconst (v := 3) hx hb dL_law_2431 (by decide) ?_
        refine lv_iadd hx hb dL_law_2432 ?_
        refine va_sld hx hb hX hbl hbA hW.2.2.1 hc320 dL_law_2433 ?_
        obtain ⟨v333, σ334, hc331, hs⟩ := ww_bn2 hs
        obtain ⟨hkp, hs⟩ := ww_pif hs
        obtain ⟨hx0, hcs⟩ := lx_s hx0 hcs hkp
        refine ww_ci (va_runV (As := [.int (xs (x4 + (1 : Int32)).toNatClampNeg), .int (xs (x4 + (2 : Int32)).toNatClampNeg), .int (xs (x4 + (3 : Int32)).toNatClampNeg)]) (rest := []) ⟨hx, hb, hml, hown, hts⟩ (c_X10_fix g hgm l L σ324 (xs (x4 + (1 : Int32)).toNatClampNeg) (xs (x4 + (2 : Int32)).toNatClampNeg) (xs (x4 + (3 : Int32)).toNatClampNeg) _ _ hc331) (cwV 3 hts (lw_V q2406 q2407 q2408 q123 q2409) rfl rfl rfl hd_X10_fix ⟨(Nat.le_of_ble_eq_true rfl), (Nat.le_of_ble_eq_true rfl)⟩) (ww_preV hW (pr_st (hW.rd hgm) (Nat.le_of_ble_eq_true rfl)) (obv_0 rfl) rfl) rfl rfl hl.1 rfl (lv_room (Nat.le_of_ble_eq_true rfl)) dL_law_2434 hrm) hW (fun H locs hW => ?_)
        have hc335 : 0 < gN_ σ334 100 := by rw [hkp.1]; exact hc330
        refine lv_istore (lv' := [(6, .int v333), (5, .int v323), (0, .ref b), (1, .ref (L 1 0)), (2, .ref (L 109 0)), (3, .ref (L 100 0)), (4, .int x4)]) hx hb dL_law_2437 hl (by decide) rfl (fun ls hl => ?_)
        refine lv_aload_n hx hb dL_law_2439 rfl (lv_at hl 4 rfl) ?_
        obtain ⟨v338, hc336, hs⟩ := ww_bnd hs
        refine ww_ci (va_runV (As := []) (rest := []) ⟨hx, hb, hml, hown, hts⟩ (c_X10_thrown g hgm l L σ334  _ hc336) (cwV 0 hts (lw_V q1671 q1672 q1673 q123 q1674) rfl rfl rfl hd_X10_thrown ⟨(Nat.le_of_ble_eq_true rfl), (Nat.le_of_ble_eq_true rfl)⟩) (ww_preV hW (pr_st (hW.rd hgm) (Nat.le_of_ble_eq_true rfl)) (obv_0 rfl) rfl) rfl rfl hl.1 rfl (lv_room (Nat.le_of_ble_eq_true rfl)) dL_law_2440 hrm) hW (fun H locs hW => ?_)
        refine lv_iload hx hb dL_law_2443 (lv_at hl 1 rfl) ?_
        refine lv_icmp_eq (tgt := 2450) hx hb dL_law_2445 (by decide) (fun hc339 => ?_) (fun hc339 => ?_)
        · have hs := ww_T hs hc339
          refine lv_iload hx hb dL_law_2450 (lv_at hl 1 rfl) ?_
          refine lv_if_ne (tgt := 2467) hx hb dL_law_2452 (by decide) (fun hc340 => ?_) (fun hc340 => ?_)
          · have hs := ww_F hs hc340
            exact hL2467 L σ334 x4 _ _ _ _ ls hx0 hcs hrm hW (lv_sub hl [2, 3, 4, 5, 6] rfl) hs
          · have hs := ww_T hs hc340
            refine lv_aload_n hx hb dL_law_2455 rfl (lv_at hl 5 rfl) ?_
            refine lv_iconst (v := 0) hx hb dL_law_2456 (by decide) ?_
            refine ww_lald hx hb hW (pr_dy hc335 rfl rfl) (j := (0 : Int32)) (vin_lit rfl) dL_law_2457 ?_
            refine lv_iload hx hb dL_law_2458 (lv_at hl 0 rfl) ?_
            refine lv_i2l hx hb dL_law_2460 rfl ?_
            refine W.lcmp hx hb dL_law_2461 ?_
            refine lv_if_eq (tgt := 2467) hx hb dL_law_2462 (by decide) (fun hc341 => ?_) (fun hc341 => ?_)
            · have hs := ww_T hs hc341
              exact hL2467 L σ334 x4 _ _ _ _ ls hx0 hcs hrm hW (lv_sub hl [2, 3, 4, 5, 6] rfl) hs
            · have hs := ww_F hs hc341
              refine lv_iconst (v := 0) hx hb dL_law_2465 (by decide) ?_
              have hs := ww_S hs
              exact wl_ret hx hb hr hlocks hW hsz hrm (congrArg Prod.fst hs) hr1 dL_law_2466
        · have hs := ww_F hs hc339
          refine lv_iconst (v := 0) hx hb dL_law_2448 (by decide) ?_
          have hs := ww_S hs
          exact wl_ret hx hb hr hlocks hW hsz hrm (congrArg Prod.fst hs) hr1 dL_law_2449
      have hL2322 : ∀ (L : ly_T) (σ : st_T) (x4 : Int32) (H : Heap) (locs : List Loc) (cells slots : Nat) (ls : Array Slot), lext L0 σ0 L σ → bk σ0 σ cells slots → (cells ≤ 1200384 ∧ slots ≤ 5487786) → wv g L σ s H locs → lv_has ls 7 [(0, .ref b), (1, .ref (L 1 0)), (2, .ref (L 109 0)), (3, .ref (L 100 0)), (4, .int x4)] → (m_L_law_L2322 N xs (m_L_law_L3445 N xs (m_L_law_L23 N xs n23))) σ x4 = some (r_, σ_) → W p l e (room_1) s m #[Value.ref b] below meth c H locs cells slots (lw_Z below #[Value.ref b] s) (F0 m 2322 ls []) := by
        have hL2387 : ∀ (L : ly_T) (σ : st_T) (x4 : Int32) (H : Heap) (locs : List Loc) (cells slots : Nat) (ls : Array Slot), lext L0 σ0 L σ → bk σ0 σ cells slots → (cells ≤ 1200384 ∧ slots ≤ 5487786) → wv g L σ s H locs → lv_has ls 7 [(0, .ref b), (1, .ref (L 1 0)), (2, .ref (L 109 0)), (3, .ref (L 100 0)), (4, .int x4)] → (m_L_law_L2387 N xs (m_L_law_L3445 N xs (m_L_law_L23 N xs n23))) σ x4 = some (r_, σ_) → W p l e (room_1) s m #[Value.ref b] below meth c H locs cells slots (lw_Z below #[Value.ref b] s) (F0 m 2387 ls []) := by
          intro L σ x4 H locs cells slots ls hx0 hcs hrm hW hl hs
          unfold m_L_law_L2387 at hs
          refine lv_goto (tgt := 3445) hx hb dL_law_2387 (by decide) ?_
          exact hL3445 L σ x4 _ _ _ _ ls hx0 hcs hrm hW (lv_sub hl [0, 1, 2, 3, 4] rfl) hs
        intro L σ x4 H locs cells slots ls hx0 hcs hrm hW hl hs
        unfold m_L_law_L2322 at hs
        refine lv_aload_n hx hb dL_law_2322 rfl (lv_at hl 1 rfl) ?_
        refine lv_aload_n hx hb dL_law_2323 rfl (lv_at hl 0 rfl) ?_
        refine lv_iload hx hb dL_law_2324 (lv_at hl 4 rfl) ?_
        refine lv_iconst (v := 1) hx hb dL_law_2326 (by decide) ?_
        refine lv_iadd hx hb dL_law_2327 ?_
        obtain ⟨hc342, hs⟩ := ww_chk hs
        refine va_sld hx hb hX hbl hbA hW.2.2.1 hc342 dL_law_2328 ?_
        refine lv_aload_n hx hb dL_law_2329 rfl (lv_at hl 0 rfl) ?_
        refine lv_iload hx hb dL_law_2330 (lv_at hl 4 rfl) ?_
        refine lv_iconst (v := 2) hx hb dL_law_2332 (by decide) ?_
        refine lv_iadd hx hb dL_law_2333 ?_
        obtain ⟨hc343, hs⟩ := ww_chk hs
        refine va_sld hx hb hX hbl hbA hW.2.2.1 hc343 dL_law_2334 ?_
        refine lv_aload_n hx hb dL_law_2335 rfl (lv_at hl 3 rfl) ?_
        obtain ⟨v346, σ347, hc344, hs⟩ := ww_bn2 hs
        have hp348 : pr σ 1 0 := (pr_st (hW.rd hgm) (Nat.le_of_ble_eq_true rfl))
        have hp349 : pr σ 109 0 := (pr_st (hW.rd hgm) (Nat.le_of_ble_eq_true rfl))
        obtain ⟨hc350, hs⟩ := ww_chk hs
        have hp351 : pr σ 100 0 := (pr_dy hc350 rfl rfl)
        obtain ⟨hc352, hs⟩ := ww_chk hs
        obtain ⟨hs, hck⟩ := ww_ck2 hs
        have hrm1 := le2_ (hcs.roomC hc352 hck) hRc
        refine wa_ci (vx_runSW (As := [.ref (L 1 0), .int (xs (x4 + (1 : Int32)).toNatClampNeg), .int (xs (x4 + (2 : Int32)).toNatClampNeg), .ref (L 100 0)]) (rest := []) ⟨hx, hb, hml, hown, hts⟩ (c_X0_claim g hgm l L σ (xs (x4 + (1 : Int32)).toNatClampNeg) (xs (x4 + (2 : Int32)).toNatClampNeg) hst _ _ hc344) (vx_cwSW 4 hts (lw_SW q1479 q1480 q110 q1481) rfl rfl rfl hd_X0_claim.2 ⟨(Nat.le_of_ble_eq_true rfl), (Nat.le_of_ble_eq_true rfl)⟩) (ww_preS hW) rfl rfl hl.1 rfl (lv_room (Nat.le_of_ble_eq_true rfl)) dL_law_2336 hrm1) hW (fun H locs L hx1 hW => ?_)
        have hc353 : 0 < gN_ σ347 100 := Nat.lt_of_lt_of_le hc350 (hx1.2.1 100)
        have hcs := hcs.call hc352
        have hrm := hrm1
        have hl : lv_has ls 7 [(0, .ref b), (1, .ref (L 1 0)), (2, .ref (L 109 0)), (3, .ref (L 100 0)), (4, .int x4)] := by rw [hx1.at hp348 (by decide), hx1.at hp349 (by decide), hx1.at hp351 (by decide)]; exact hl
        have hx0 := hx0.trans hx1
        refine lv_istore (lv' := [(5, .int v346), (0, .ref b), (1, .ref (L 1 0)), (2, .ref (L 109 0)), (3, .ref (L 100 0)), (4, .int x4)]) hx hb dL_law_2339 hl (by decide) rfl (fun ls hl => ?_)
        refine lv_aload_n hx hb dL_law_2341 rfl (lv_at hl 3 rfl) ?_
        refine lv_aload_n hx hb dL_law_2342 rfl (lv_at hl 1 rfl) ?_
        refine lv_iload hx hb dL_law_2343 (lv_at hl 5 rfl) ?_
        refine lv_iconst (v := 1) hx hb dL_law_2345 (by decide) ?_
        refine lv_iadd hx hb dL_law_2346 ?_
        refine va_sld hx hb hX hbl hbA hW.2.2.1 hc342 dL_law_2347 ?_
        refine lv_aload_n hx hb dL_law_2348 rfl (lv_at hl 1 rfl) ?_
        refine lv_iload hx hb dL_law_2349 (lv_at hl 5 rfl) ?_
        refine lv_iconst (v := 2) hx hb dL_law_2351 (by decide) ?_
        refine lv_iadd hx hb dL_law_2352 ?_
        refine va_sld hx hb hX hbl hbA hW.2.2.1 hc343 dL_law_2353 ?_
        obtain ⟨v356, σ357, hc354, hs⟩ := ww_bn2 hs
        obtain ⟨hkp, hs⟩ := ww_pif hs
        obtain ⟨hx0, hcs⟩ := lx_s hx0 hcs hkp
        refine ww_ci (va_runV (As := [.int (xs (x4 + (1 : Int32)).toNatClampNeg), .int (xs (x4 + (2 : Int32)).toNatClampNeg)]) (rest := []) ⟨hx, hb, hml, hown, hts⟩ (c_X10_claim g hgm l L σ347 (xs (x4 + (1 : Int32)).toNatClampNeg) (xs (x4 + (2 : Int32)).toNatClampNeg) _ _ hc354) (cwV 2 hts (lw_V q2402 q2403 q2404 q123 q2405) rfl rfl rfl hd_X10_claim ⟨(Nat.le_of_ble_eq_true rfl), (Nat.le_of_ble_eq_true rfl)⟩) (ww_preV hW (pr_st (hW.rd hgm) (Nat.le_of_ble_eq_true rfl)) (obv_0 rfl) rfl) rfl rfl hl.1 rfl (lv_room (Nat.le_of_ble_eq_true rfl)) dL_law_2354 hrm) hW (fun H locs hW => ?_)
        have hc358 : 0 < gN_ σ357 100 := by rw [hkp.1]; exact hc353
        refine lv_istore (lv' := [(6, .int v356), (5, .int v346), (0, .ref b), (1, .ref (L 1 0)), (2, .ref (L 109 0)), (3, .ref (L 100 0)), (4, .int x4)]) hx hb dL_law_2357 hl (by decide) rfl (fun ls hl => ?_)
        refine lv_aload_n hx hb dL_law_2359 rfl (lv_at hl 4 rfl) ?_
        obtain ⟨v361, hc359, hs⟩ := ww_bnd hs
        refine ww_ci (va_runV (As := []) (rest := []) ⟨hx, hb, hml, hown, hts⟩ (c_X10_thrown g hgm l L σ357  _ hc359) (cwV 0 hts (lw_V q1671 q1672 q1673 q123 q1674) rfl rfl rfl hd_X10_thrown ⟨(Nat.le_of_ble_eq_true rfl), (Nat.le_of_ble_eq_true rfl)⟩) (ww_preV hW (pr_st (hW.rd hgm) (Nat.le_of_ble_eq_true rfl)) (obv_0 rfl) rfl) rfl rfl hl.1 rfl (lv_room (Nat.le_of_ble_eq_true rfl)) dL_law_2360 hrm) hW (fun H locs hW => ?_)
        refine lv_iload hx hb dL_law_2363 (lv_at hl 1 rfl) ?_
        refine lv_icmp_eq (tgt := 2370) hx hb dL_law_2365 (by decide) (fun hc362 => ?_) (fun hc362 => ?_)
        · have hs := ww_T hs hc362
          refine lv_iload hx hb dL_law_2370 (lv_at hl 1 rfl) ?_
          refine lv_if_ne (tgt := 2387) hx hb dL_law_2372 (by decide) (fun hc363 => ?_) (fun hc363 => ?_)
          · have hs := ww_F hs hc363
            exact hL2387 L σ357 x4 _ _ _ _ ls hx0 hcs hrm hW (lv_sub hl [2, 3, 4, 5, 6] rfl) hs
          · have hs := ww_T hs hc363
            refine lv_aload_n hx hb dL_law_2375 rfl (lv_at hl 5 rfl) ?_
            refine lv_iconst (v := 0) hx hb dL_law_2376 (by decide) ?_
            refine ww_lald hx hb hW (pr_dy hc358 rfl rfl) (j := (0 : Int32)) (vin_lit rfl) dL_law_2377 ?_
            refine lv_iload hx hb dL_law_2378 (lv_at hl 0 rfl) ?_
            refine lv_i2l hx hb dL_law_2380 rfl ?_
            refine W.lcmp hx hb dL_law_2381 ?_
            refine lv_if_eq (tgt := 2387) hx hb dL_law_2382 (by decide) (fun hc364 => ?_) (fun hc364 => ?_)
            · have hs := ww_T hs hc364
              exact hL2387 L σ357 x4 _ _ _ _ ls hx0 hcs hrm hW (lv_sub hl [2, 3, 4, 5, 6] rfl) hs
            · have hs := ww_F hs hc364
              refine lv_iconst (v := 0) hx hb dL_law_2385 (by decide) ?_
              have hs := ww_S hs
              exact wl_ret hx hb hr hlocks hW hsz hrm (congrArg Prod.fst hs) hr1 dL_law_2386
        · have hs := ww_F hs hc362
          refine lv_iconst (v := 0) hx hb dL_law_2368 (by decide) ?_
          have hs := ww_S hs
          exact wl_ret hx hb hr hlocks hW hsz hrm (congrArg Prod.fst hs) hr1 dL_law_2369
      have hL2230 : ∀ (L : ly_T) (σ : st_T) (x4 : Int32) (H : Heap) (locs : List Loc) (cells slots : Nat) (ls : Array Slot), lext L0 σ0 L σ → bk σ0 σ cells slots → (cells ≤ 1200384 ∧ slots ≤ 5487786) → wv g L σ s H locs → lv_has ls 7 [(0, .ref b), (1, .ref (L 1 0)), (2, .ref (L 109 0)), (3, .ref (L 100 0)), (4, .int x4)] → (m_L_law_L2230 N xs (m_L_law_L3445 N xs (m_L_law_L23 N xs n23))) σ x4 = some (r_, σ_) → W p l e (room_1) s m #[Value.ref b] below meth c H locs cells slots (lw_Z below #[Value.ref b] s) (F0 m 2230 ls []) := by
        have hL2319 : ∀ (L : ly_T) (σ : st_T) (x4 : Int32) (H : Heap) (locs : List Loc) (cells slots : Nat) (ls : Array Slot), lext L0 σ0 L σ → bk σ0 σ cells slots → (cells ≤ 1200384 ∧ slots ≤ 5487786) → wv g L σ s H locs → lv_has ls 7 [(0, .ref b), (1, .ref (L 1 0)), (2, .ref (L 109 0)), (3, .ref (L 100 0)), (4, .int x4)] → (m_L_law_L2319 N xs (m_L_law_L3445 N xs (m_L_law_L23 N xs n23))) σ x4 = some (r_, σ_) → W p l e (room_1) s m #[Value.ref b] below meth c H locs cells slots (lw_Z below #[Value.ref b] s) (F0 m 2319 ls []) := by
          intro L σ x4 H locs cells slots ls hx0 hcs hrm hW hl hs
          unfold m_L_law_L2319 at hs
          refine lv_goto (tgt := 3445) hx hb dL_law_2319 (by decide) ?_
          exact hL3445 L σ x4 _ _ _ _ ls hx0 hcs hrm hW (lv_sub hl [0, 1, 2, 3, 4] rfl) hs
        intro L σ x4 H locs cells slots ls hx0 hcs hrm hW hl hs
        unfold m_L_law_L2230 at hs
        refine lv_aload_n hx hb dL_law_2230 rfl (lv_at hl 1 rfl) ?_
        refine lv_aload_n hx hb dL_law_2231 rfl (lv_at hl 0 rfl) ?_
        refine lv_iload hx hb dL_law_2232 (lv_at hl 4 rfl) ?_
        refine lv_iconst (v := 1) hx hb dL_law_2234 (by decide) ?_
        refine lv_iadd hx hb dL_law_2235 ?_
        obtain ⟨hc365, hs⟩ := ww_chk hs
        refine va_sld hx hb hX hbl hbA hW.2.2.1 hc365 dL_law_2236 ?_
        refine lv_aload_n hx hb dL_law_2237 rfl (lv_at hl 0 rfl) ?_
        refine lv_iload hx hb dL_law_2238 (lv_at hl 4 rfl) ?_
        refine lv_iconst (v := 2) hx hb dL_law_2240 (by decide) ?_
        refine lv_iadd hx hb dL_law_2241 ?_
        obtain ⟨hc366, hs⟩ := ww_chk hs
        refine va_sld hx hb hX hbl hbA hW.2.2.1 hc366 dL_law_2242 ?_
        refine lv_aload_n hx hb dL_law_2243 rfl (lv_at hl 0 rfl) ?_
        refine lv_iload hx hb dL_law_2244 (lv_at hl 4 rfl) ?_
        refine lv_iconst (v := 3) hx hb dL_law_2246 (by decide) ?_
        refine lv_iadd hx hb dL_law_2247 ?_
        obtain ⟨hc367, hs⟩ := ww_chk hs
        refine va_sld hx hb hX hbl hbA hW.2.2.1 hc367 dL_law_2248 ?_
        refine lv_aload_n hx hb dL_law_2249 rfl (lv_at hl 0 rfl) ?_
        refine lv_iload hx hb dL_law_2250 (lv_at hl 4 rfl) ?_
        refine lv_iconst (v := 4) hx hb dL_law_2252 (by decide) ?_
        refine lv_iadd hx hb dL_law_2253 ?_
        obtain ⟨hc368, hs⟩ := ww_chk hs
        refine va_sld hx hb hX hbl hbA hW.2.2.1 hc368 dL_law_2254 ?_
        refine lv_aload_n hx hb dL_law_2255 rfl (lv_at hl 3 rfl) ?_
        obtain ⟨v371, σ372, hc369, hs⟩ := ww_bn2 hs
        have hp373 : pr σ 1 0 := (pr_st (hW.rd hgm) (Nat.le_of_ble_eq_true rfl))
        have hp374 : pr σ 109 0 := (pr_st (hW.rd hgm) (Nat.le_of_ble_eq_true rfl))
        obtain ⟨hc375, hs⟩ := ww_chk hs
        have hp376 : pr σ 100 0 := (pr_dy hc375 rfl rfl)
        obtain ⟨hc377, hs⟩ := ww_chk hs
        obtain ⟨hs, hck⟩ := ww_ck2 hs
        have hrm1 := le2_ (hcs.roomC hc377 hck) hRc
        refine wa_ci (vx_runSW (As := [.ref (L 1 0), .int (xs (x4 + (1 : Int32)).toNatClampNeg), .int (xs (x4 + (2 : Int32)).toNatClampNeg), .int (xs (x4 + (3 : Int32)).toNatClampNeg), .int (xs (x4 + (4 : Int32)).toNatClampNeg), .ref (L 100 0)]) (rest := []) ⟨hx, hb, hml, hown, hts⟩ (c_X0_judge g hgm l L σ (xs (x4 + (1 : Int32)).toNatClampNeg) (xs (x4 + (2 : Int32)).toNatClampNeg) (xs (x4 + (3 : Int32)).toNatClampNeg) (xs (x4 + (4 : Int32)).toNatClampNeg) hst _ _ hc369) (vx_cwSW 6 hts (lw_SW q1410 q1411 q110 q1412) rfl rfl rfl hd_X0_judge.2 ⟨(Nat.le_of_ble_eq_true rfl), (Nat.le_of_ble_eq_true rfl)⟩) (ww_preS hW) rfl rfl hl.1 rfl (lv_room (Nat.le_of_ble_eq_true rfl)) dL_law_2256 hrm1) hW (fun H locs L hx1 hW => ?_)
        have hc378 : 0 < gN_ σ372 100 := Nat.lt_of_lt_of_le hc375 (hx1.2.1 100)
        have hcs := hcs.call hc377
        have hrm := hrm1
        have hl : lv_has ls 7 [(0, .ref b), (1, .ref (L 1 0)), (2, .ref (L 109 0)), (3, .ref (L 100 0)), (4, .int x4)] := by rw [hx1.at hp373 (by decide), hx1.at hp374 (by decide), hx1.at hp376 (by decide)]; exact hl
        have hx0 := hx0.trans hx1
        refine lv_istore (lv' := [(5, .int v371), (0, .ref b), (1, .ref (L 1 0)), (2, .ref (L 109 0)), (3, .ref (L 100 0)), (4, .int x4)]) hx hb dL_law_2259 hl (by decide) rfl (fun ls hl => ?_)
        refine lv_aload_n hx hb dL_law_2261 rfl (lv_at hl 3 rfl) ?_
        refine lv_aload_n hx hb dL_law_2262 rfl (lv_at hl 1 rfl) ?_
        refine lv_iload hx hb dL_law_2263 (lv_at hl 5 rfl) ?_
        refine lv_iconst (v := 1) hx hb dL_law_2265 (by decide) ?_
        refine lv_iadd hx hb dL_law_2266 ?_
        refine va_sld hx hb hX hbl hbA hW.2.2.1 hc365 dL_law_2267 ?_
        refine lv_aload_n hx hb dL_law_2268 rfl (lv_at hl 1 rfl) ?_
        refine lv_iload hx hb dL_law_2269 (lv_at hl 5 rfl) ?_
        refine lv_iconst (v := 2) hx hb dL_law_2271 (by decide) ?_
        refine lv_iadd hx hb dL_law_2272 ?_
        refine va_sld hx hb hX hbl hbA hW.2.2.1 hc366 dL_law_2273 ?_
        refine lv_aload_n hx hb dL_law_2274 rfl (lv_at hl 1 rfl) ?_
        refine lv_iload hx hb dL_law_2275 (lv_at hl 5 rfl) ?_
        refine lv_iconst (v := 3) hx hb dL_law_2277 (by decide) ?_
        refine lv_iadd hx hb dL_law_2278 ?_
        refine va_sld hx hb hX hbl hbA hW.2.2.1 hc367 dL_law_2279 ?_
        refine lv_aload_n hx hb dL_law_2280 rfl (lv_at hl 1 rfl) ?_
        refine lv_iload hx hb dL_law_2281 (lv_at hl 5 rfl) ?_
        refine lv_iconst (v := 4) hx hb dL_law_2283 (by decide) ?_
        refine lv_iadd hx hb dL_law_2284 ?_
        refine va_sld hx hb hX hbl hbA hW.2.2.1 hc368 dL_law_2285 ?_
        obtain ⟨v381, σ382, hc379, hs⟩ := ww_bn2 hs
        obtain ⟨hkp, hs⟩ := ww_pif hs
        obtain ⟨hx0, hcs⟩ := lx_s hx0 hcs hkp
        refine ww_ci (va_runV (As := [.int (xs (x4 + (1 : Int32)).toNatClampNeg), .int (xs (x4 + (2 : Int32)).toNatClampNeg), .int (xs (x4 + (3 : Int32)).toNatClampNeg), .int (xs (x4 + (4 : Int32)).toNatClampNeg)]) (rest := []) ⟨hx, hb, hml, hown, hts⟩ (c_X10_judge g hgm l L σ372 (xs (x4 + (1 : Int32)).toNatClampNeg) (xs (x4 + (2 : Int32)).toNatClampNeg) (xs (x4 + (3 : Int32)).toNatClampNeg) (xs (x4 + (4 : Int32)).toNatClampNeg) _ _ hc379) (cwV 4 hts (lw_V q2388 q2389 q2390 q123 q2391) rfl rfl rfl hd_X10_judge ⟨(Nat.le_of_ble_eq_true rfl), (Nat.le_of_ble_eq_true rfl)⟩) (ww_preV hW (pr_st (hW.rd hgm) (Nat.le_of_ble_eq_true rfl)) (obv_0 rfl) rfl) rfl rfl hl.1 rfl (lv_room (Nat.le_of_ble_eq_true rfl)) dL_law_2286 hrm) hW (fun H locs hW => ?_)
        have hc383 : 0 < gN_ σ382 100 := by rw [hkp.1]; exact hc378
        refine lv_istore (lv' := [(6, .int v381), (5, .int v371), (0, .ref b), (1, .ref (L 1 0)), (2, .ref (L 109 0)), (3, .ref (L 100 0)), (4, .int x4)]) hx hb dL_law_2289 hl (by decide) rfl (fun ls hl => ?_)
        refine lv_aload_n hx hb dL_law_2291 rfl (lv_at hl 4 rfl) ?_
        obtain ⟨v386, hc384, hs⟩ := ww_bnd hs
        refine ww_ci (va_runV (As := []) (rest := []) ⟨hx, hb, hml, hown, hts⟩ (c_X10_thrown g hgm l L σ382  _ hc384) (cwV 0 hts (lw_V q1671 q1672 q1673 q123 q1674) rfl rfl rfl hd_X10_thrown ⟨(Nat.le_of_ble_eq_true rfl), (Nat.le_of_ble_eq_true rfl)⟩) (ww_preV hW (pr_st (hW.rd hgm) (Nat.le_of_ble_eq_true rfl)) (obv_0 rfl) rfl) rfl rfl hl.1 rfl (lv_room (Nat.le_of_ble_eq_true rfl)) dL_law_2292 hrm) hW (fun H locs hW => ?_)
        refine lv_iload hx hb dL_law_2295 (lv_at hl 1 rfl) ?_
        refine lv_icmp_eq (tgt := 2302) hx hb dL_law_2297 (by decide) (fun hc387 => ?_) (fun hc387 => ?_)
        · have hs := ww_T hs hc387
          refine lv_iload hx hb dL_law_2302 (lv_at hl 1 rfl) ?_
          refine lv_if_ne (tgt := 2319) hx hb dL_law_2304 (by decide) (fun hc388 => ?_) (fun hc388 => ?_)
          · have hs := ww_F hs hc388
            exact hL2319 L σ382 x4 _ _ _ _ ls hx0 hcs hrm hW (lv_sub hl [2, 3, 4, 5, 6] rfl) hs
          · have hs := ww_T hs hc388
            refine lv_aload_n hx hb dL_law_2307 rfl (lv_at hl 5 rfl) ?_
            refine lv_iconst (v := 0) hx hb dL_law_2308 (by decide) ?_
            refine ww_lald hx hb hW (pr_dy hc383 rfl rfl) (j := (0 : Int32)) (vin_lit rfl) dL_law_2309 ?_
            refine lv_iload hx hb dL_law_2310 (lv_at hl 0 rfl) ?_
            refine lv_i2l hx hb dL_law_2312 rfl ?_
            refine W.lcmp hx hb dL_law_2313 ?_
            refine lv_if_eq (tgt := 2319) hx hb dL_law_2314 (by decide) (fun hc389 => ?_) (fun hc389 => ?_)
            · have hs := ww_T hs hc389
              exact hL2319 L σ382 x4 _ _ _ _ ls hx0 hcs hrm hW (lv_sub hl [2, 3, 4, 5, 6] rfl) hs
            · have hs := ww_F hs hc389
              refine lv_iconst (v := 0) hx hb dL_law_2317 (by decide) ?_
              have hs := ww_S hs
              exact wl_ret hx hb hr hlocks hW hsz hrm (congrArg Prod.fst hs) hr1 dL_law_2318
        · have hs := ww_F hs hc387
          refine lv_iconst (v := 0) hx hb dL_law_2300 (by decide) ?_
          have hs := ww_S hs
          exact wl_ret hx hb hr hlocks hW hsz hrm (congrArg Prod.fst hs) hr1 dL_law_2301
      have hL2174 : ∀ (L : ly_T) (σ : st_T) (x4 : Int32) (H : Heap) (locs : List Loc) (cells slots : Nat) (ls : Array Slot), lext L0 σ0 L σ → bk σ0 σ cells slots → (cells ≤ 1200384 ∧ slots ≤ 5487786) → wv g L σ s H locs → lv_has ls 7 [(0, .ref b), (1, .ref (L 1 0)), (2, .ref (L 109 0)), (3, .ref (L 100 0)), (4, .int x4)] → (m_L_law_L2174 N xs (m_L_law_L3445 N xs (m_L_law_L23 N xs n23))) σ x4 = some (r_, σ_) → W p l e (room_1) s m #[Value.ref b] below meth c H locs cells slots (lw_Z below #[Value.ref b] s) (F0 m 2174 ls []) := by
        have hL2227 : ∀ (L : ly_T) (σ : st_T) (x4 : Int32) (H : Heap) (locs : List Loc) (cells slots : Nat) (ls : Array Slot), lext L0 σ0 L σ → bk σ0 σ cells slots → (cells ≤ 1200384 ∧ slots ≤ 5487786) → wv g L σ s H locs → lv_has ls 7 [(0, .ref b), (1, .ref (L 1 0)), (2, .ref (L 109 0)), (3, .ref (L 100 0)), (4, .int x4)] → (m_L_law_L2227 N xs (m_L_law_L3445 N xs (m_L_law_L23 N xs n23))) σ x4 = some (r_, σ_) → W p l e (room_1) s m #[Value.ref b] below meth c H locs cells slots (lw_Z below #[Value.ref b] s) (F0 m 2227 ls []) := by
          intro L σ x4 H locs cells slots ls hx0 hcs hrm hW hl hs
          unfold m_L_law_L2227 at hs
          refine lv_goto (tgt := 3445) hx hb dL_law_2227 (by decide) ?_
          exact hL3445 L σ x4 _ _ _ _ ls hx0 hcs hrm hW (lv_sub hl [0, 1, 2, 3, 4] rfl) hs
        intro L σ x4 H locs cells slots ls hx0 hcs hrm hW hl hs
        unfold m_L_law_L2174 at hs
        refine lv_aload_n hx hb dL_law_2174 rfl (lv_at hl 1 rfl) ?_
        refine lv_aload_n hx hb dL_law_2175 rfl (lv_at hl 0 rfl) ?_
        refine lv_iload hx hb dL_law_2176 (lv_at hl 4 rfl) ?_
        refine lv_iconst (v := 1) hx hb dL_law_2178 (by decide) ?_
        refine lv_iadd hx hb dL_law_2179 ?_
        obtain ⟨hc390, hs⟩ := ww_chk hs
        refine va_sld hx hb hX hbl hbA hW.2.2.1 hc390 dL_law_2180 ?_
        refine lv_aload_n hx hb dL_law_2181 rfl (lv_at hl 3 rfl) ?_
        obtain ⟨v393, σ394, hc391, hs⟩ := ww_bn2 hs
        have hp395 : pr σ 1 0 := (pr_st (hW.rd hgm) (Nat.le_of_ble_eq_true rfl))
        have hp396 : pr σ 109 0 := (pr_st (hW.rd hgm) (Nat.le_of_ble_eq_true rfl))
        obtain ⟨hc397, hs⟩ := ww_chk hs
        have hp398 : pr σ 100 0 := (pr_dy hc397 rfl rfl)
        obtain ⟨hc399, hs⟩ := ww_chk hs
        obtain ⟨hs, hck⟩ := ww_ck2 hs
        have hrm1 := le2_ (hcs.roomC hc399 hck) hRc
        refine wa_ci (vx_runSW (As := [.ref (L 1 0), .int (xs (x4 + (1 : Int32)).toNatClampNeg), .ref (L 100 0)]) (rest := []) ⟨hx, hb, hml, hown, hts⟩ (c_X0_fund g hgm l L σ (xs (x4 + (1 : Int32)).toNatClampNeg) hst _ _ hc391) (vx_cwSW 3 hts (lw_SW q1402 q1403 q110 q1404) rfl rfl rfl hd_X0_fund.2 ⟨(Nat.le_of_ble_eq_true rfl), (Nat.le_of_ble_eq_true rfl)⟩) (ww_preS hW) rfl rfl hl.1 rfl (lv_room (Nat.le_of_ble_eq_true rfl)) dL_law_2182 hrm1) hW (fun H locs L hx1 hW => ?_)
        have hc400 : 0 < gN_ σ394 100 := Nat.lt_of_lt_of_le hc397 (hx1.2.1 100)
        have hcs := hcs.call hc399
        have hrm := hrm1
        have hl : lv_has ls 7 [(0, .ref b), (1, .ref (L 1 0)), (2, .ref (L 109 0)), (3, .ref (L 100 0)), (4, .int x4)] := by rw [hx1.at hp395 (by decide), hx1.at hp396 (by decide), hx1.at hp398 (by decide)]; exact hl
        have hx0 := hx0.trans hx1
        refine lv_istore (lv' := [(5, .int v393), (0, .ref b), (1, .ref (L 1 0)), (2, .ref (L 109 0)), (3, .ref (L 100 0)), (4, .int x4)]) hx hb dL_law_2185 hl (by decide) rfl (fun ls hl => ?_)
        refine lv_aload_n hx hb dL_law_2187 rfl (lv_at hl 3 rfl) ?_
        refine lv_aload_n hx hb dL_law_2188 rfl (lv_at hl 1 rfl) ?_
        refine lv_iload hx hb dL_law_2189 (lv_at hl 5 rfl) ?_
        refine lv_iconst (v := 1) hx hb dL_law_2191 (by decide) ?_
        refine lv_iadd hx hb dL_law_2192 ?_
        refine va_sld hx hb hX hbl hbA hW.2.2.1 hc390 dL_law_2193 ?_
        obtain ⟨v403, σ404, hc401, hs⟩ := ww_bn2 hs
        obtain ⟨hkp, hs⟩ := ww_pif hs
        obtain ⟨hx0, hcs⟩ := lx_s hx0 hcs hkp
        refine ww_ci (va_runV (As := [.int (xs (x4 + (1 : Int32)).toNatClampNeg)]) (rest := []) ⟨hx, hb, hml, hown, hts⟩ (c_X10_fund g hgm l L σ394 (xs (x4 + (1 : Int32)).toNatClampNeg) _ _ hc401) (cwV 1 hts (lw_V q2383 q2384 q2385 q123 q2386) rfl rfl rfl hd_X10_fund ⟨(Nat.le_of_ble_eq_true rfl), (Nat.le_of_ble_eq_true rfl)⟩) (ww_preV hW (pr_st (hW.rd hgm) (Nat.le_of_ble_eq_true rfl)) (obv_0 rfl) rfl) rfl rfl hl.1 rfl (lv_room (Nat.le_of_ble_eq_true rfl)) dL_law_2194 hrm) hW (fun H locs hW => ?_)
        have hc405 : 0 < gN_ σ404 100 := by rw [hkp.1]; exact hc400
        refine lv_istore (lv' := [(6, .int v403), (5, .int v393), (0, .ref b), (1, .ref (L 1 0)), (2, .ref (L 109 0)), (3, .ref (L 100 0)), (4, .int x4)]) hx hb dL_law_2197 hl (by decide) rfl (fun ls hl => ?_)
        refine lv_aload_n hx hb dL_law_2199 rfl (lv_at hl 4 rfl) ?_
        obtain ⟨v408, hc406, hs⟩ := ww_bnd hs
        refine ww_ci (va_runV (As := []) (rest := []) ⟨hx, hb, hml, hown, hts⟩ (c_X10_thrown g hgm l L σ404  _ hc406) (cwV 0 hts (lw_V q1671 q1672 q1673 q123 q1674) rfl rfl rfl hd_X10_thrown ⟨(Nat.le_of_ble_eq_true rfl), (Nat.le_of_ble_eq_true rfl)⟩) (ww_preV hW (pr_st (hW.rd hgm) (Nat.le_of_ble_eq_true rfl)) (obv_0 rfl) rfl) rfl rfl hl.1 rfl (lv_room (Nat.le_of_ble_eq_true rfl)) dL_law_2200 hrm) hW (fun H locs hW => ?_)
        refine lv_iload hx hb dL_law_2203 (lv_at hl 1 rfl) ?_
        refine lv_icmp_eq (tgt := 2210) hx hb dL_law_2205 (by decide) (fun hc409 => ?_) (fun hc409 => ?_)
        · have hs := ww_T hs hc409
          refine lv_iload hx hb dL_law_2210 (lv_at hl 1 rfl) ?_
          refine lv_if_ne (tgt := 2227) hx hb dL_law_2212 (by decide) (fun hc410 => ?_) (fun hc410 => ?_)
          · have hs := ww_F hs hc410
            exact hL2227 L σ404 x4 _ _ _ _ ls hx0 hcs hrm hW (lv_sub hl [2, 3, 4, 5, 6] rfl) hs
          · have hs := ww_T hs hc410
            refine lv_aload_n hx hb dL_law_2215 rfl (lv_at hl 5 rfl) ?_
            refine lv_iconst (v := 0) hx hb dL_law_2216 (by decide) ?_
            refine ww_lald hx hb hW (pr_dy hc405 rfl rfl) (j := (0 : Int32)) (vin_lit rfl) dL_law_2217 ?_
            refine lv_iload hx hb dL_law_2218 (lv_at hl 0 rfl) ?_
            refine lv_i2l hx hb dL_law_2220 rfl ?_
            refine W.lcmp hx hb dL_law_2221 ?_
            refine lv_if_eq (tgt := 2227) hx hb dL_law_2222 (by decide) (fun hc411 => ?_) (fun hc411 => ?_)
            · have hs := ww_T hs hc411
              exact hL2227 L σ404 x4 _ _ _ _ ls hx0 hcs hrm hW (lv_sub hl [2, 3, 4, 5, 6] rfl) hs
            · have hs := ww_F hs hc411
              refine lv_iconst (v := 0) hx hb dL_law_2225 (by decide) ?_
              have hs := ww_S hs
              exact wl_ret hx hb hr hlocks hW hsz hrm (congrArg Prod.fst hs) hr1 dL_law_2226
        · have hs := ww_F hs hc409
          refine lv_iconst (v := 0) hx hb dL_law_2208 (by decide) ?_
          have hs := ww_S hs
          exact wl_ret hx hb hr hlocks hW hsz hrm (congrArg Prod.fst hs) hr1 dL_law_2209
      have hL2082 : ∀ (L : ly_T) (σ : st_T) (x4 : Int32) (H : Heap) (locs : List Loc) (cells slots : Nat) (ls : Array Slot), lext L0 σ0 L σ → bk σ0 σ cells slots → (cells ≤ 1200384 ∧ slots ≤ 5487786) → wv g L σ s H locs → lv_has ls 7 [(0, .ref b), (1, .ref (L 1 0)), (2, .ref (L 109 0)), (3, .ref (L 100 0)), (4, .int x4)] → (m_L_law_L2082 N xs (m_L_law_L3445 N xs (m_L_law_L23 N xs n23))) σ x4 = some (r_, σ_) → W p l e (room_1) s m #[Value.ref b] below meth c H locs cells slots (lw_Z below #[Value.ref b] s) (F0 m 2082 ls []) := by
        have hL2171 : ∀ (L : ly_T) (σ : st_T) (x4 : Int32) (H : Heap) (locs : List Loc) (cells slots : Nat) (ls : Array Slot), lext L0 σ0 L σ → bk σ0 σ cells slots → (cells ≤ 1200384 ∧ slots ≤ 5487786) → wv g L σ s H locs → lv_has ls 7 [(0, .ref b), (1, .ref (L 1 0)), (2, .ref (L 109 0)), (3, .ref (L 100 0)), (4, .int x4)] → (m_L_law_L2171 N xs (m_L_law_L3445 N xs (m_L_law_L23 N xs n23))) σ x4 = some (r_, σ_) → W p l e (room_1) s m #[Value.ref b] below meth c H locs cells slots (lw_Z below #[Value.ref b] s) (F0 m 2171 ls []) := by
          intro L σ x4 H locs cells slots ls hx0 hcs hrm hW hl hs
          unfold m_L_law_L2171 at hs
          refine lv_goto (tgt := 3445) hx hb dL_law_2171 (by decide) ?_
          exact hL3445 L σ x4 _ _ _ _ ls hx0 hcs hrm hW (lv_sub hl [0, 1, 2, 3, 4] rfl) hs
        intro L σ x4 H locs cells slots ls hx0 hcs hrm hW hl hs
        unfold m_L_law_L2082 at hs
        refine lv_aload_n hx hb dL_law_2082 rfl (lv_at hl 1 rfl) ?_
        refine lv_aload_n hx hb dL_law_2083 rfl (lv_at hl 0 rfl) ?_
        refine lv_iload hx hb dL_law_2084 (lv_at hl 4 rfl) ?_
        refine lv_iconst (v := 1) hx hb dL_law_2086 (by decide) ?_
        refine lv_iadd hx hb dL_law_2087 ?_
        obtain ⟨hc412, hs⟩ := ww_chk hs
        refine va_sld hx hb hX hbl hbA hW.2.2.1 hc412 dL_law_2088 ?_
        refine lv_aload_n hx hb dL_law_2089 rfl (lv_at hl 0 rfl) ?_
        refine lv_iload hx hb dL_law_2090 (lv_at hl 4 rfl) ?_
        refine lv_iconst (v := 2) hx hb dL_law_2092 (by decide) ?_
        refine lv_iadd hx hb dL_law_2093 ?_
        obtain ⟨hc413, hs⟩ := ww_chk hs
        refine va_sld hx hb hX hbl hbA hW.2.2.1 hc413 dL_law_2094 ?_
        refine lv_aload_n hx hb dL_law_2095 rfl (lv_at hl 0 rfl) ?_
        refine lv_iload hx hb dL_law_2096 (lv_at hl 4 rfl) ?_
        refine lv_iconst (v := 3) hx hb dL_law_2098 (by decide) ?_
        refine lv_iadd hx hb dL_law_2099 ?_
        obtain ⟨hc414, hs⟩ := ww_chk hs
        refine va_sld hx hb hX hbl hbA hW.2.2.1 hc414 dL_law_2100 ?_
        refine lv_aload_n hx hb dL_law_2101 rfl (lv_at hl 0 rfl) ?_
        refine lv_iload hx hb dL_law_2102 (lv_at hl 4 rfl) ?_
        refine lv_iconst (v := 4) hx hb dL_law_2104 (by decide) ?_
        refine lv_iadd hx hb dL_law_2105 ?_
        obtain ⟨hc415, hs⟩ := ww_chk hs
        refine va_sld hx hb hX hbl hbA hW.2.2.1 hc415 dL_law_2106 ?_
        refine lv_aload_n hx hb dL_law_2107 rfl (lv_at hl 3 rfl) ?_
        obtain ⟨v418, σ419, hc416, hs⟩ := ww_bn2 hs
        have hp420 : pr σ 1 0 := (pr_st (hW.rd hgm) (Nat.le_of_ble_eq_true rfl))
        have hp421 : pr σ 109 0 := (pr_st (hW.rd hgm) (Nat.le_of_ble_eq_true rfl))
        obtain ⟨hc422, hs⟩ := ww_chk hs
        have hp423 : pr σ 100 0 := (pr_dy hc422 rfl rfl)
        obtain ⟨hc424, hs⟩ := ww_chk hs
        obtain ⟨hs, hck⟩ := ww_ck2 hs
        have hrm1 := le2_ (hcs.roomC hc424 hck) hRc
        refine wa_ci (vx_runSW (As := [.ref (L 1 0), .int (xs (x4 + (1 : Int32)).toNatClampNeg), .int (xs (x4 + (2 : Int32)).toNatClampNeg), .int (xs (x4 + (3 : Int32)).toNatClampNeg), .int (xs (x4 + (4 : Int32)).toNatClampNeg), .ref (L 100 0)]) (rest := []) ⟨hx, hb, hml, hown, hts⟩ (c_X0_harm g hgm l L σ (xs (x4 + (1 : Int32)).toNatClampNeg) (xs (x4 + (2 : Int32)).toNatClampNeg) (xs (x4 + (3 : Int32)).toNatClampNeg) (xs (x4 + (4 : Int32)).toNatClampNeg) hst _ _ hc416) (vx_cwSW 6 hts (lw_SW q1389 q1390 q110 q1391) rfl rfl rfl hd_X0_harm.2 ⟨(Nat.le_of_ble_eq_true rfl), (Nat.le_of_ble_eq_true rfl)⟩) (ww_preS hW) rfl rfl hl.1 rfl (lv_room (Nat.le_of_ble_eq_true rfl)) dL_law_2108 hrm1) hW (fun H locs L hx1 hW => ?_)
        have hc425 : 0 < gN_ σ419 100 := Nat.lt_of_lt_of_le hc422 (hx1.2.1 100)
        have hcs := hcs.call hc424
        have hrm := hrm1
        have hl : lv_has ls 7 [(0, .ref b), (1, .ref (L 1 0)), (2, .ref (L 109 0)), (3, .ref (L 100 0)), (4, .int x4)] := by rw [hx1.at hp420 (by decide), hx1.at hp421 (by decide), hx1.at hp423 (by decide)]; exact hl
        have hx0 := hx0.trans hx1
        refine lv_istore (lv' := [(5, .int v418), (0, .ref b), (1, .ref (L 1 0)), (2, .ref (L 109 0)), (3, .ref (L 100 0)), (4, .int x4)]) hx hb dL_law_2111 hl (by decide) rfl (fun ls hl => ?_)
        refine lv_aload_n hx hb dL_law_2113 rfl (lv_at hl 3 rfl) ?_
        refine lv_aload_n hx hb dL_law_2114 rfl (lv_at hl 1 rfl) ?_
        refine lv_iload hx hb dL_law_2115 (lv_at hl 5 rfl) ?_
        refine lv_iconst (v := 1) hx hb dL_law_2117 (by decide) ?_
        refine lv_iadd hx hb dL_law_2118 ?_
        refine va_sld hx hb hX hbl hbA hW.2.2.1 hc412 dL_law_2119 ?_
        refine lv_aload_n hx hb dL_law_2120 rfl (lv_at hl 1 rfl) ?_
        refine lv_iload hx hb dL_law_2121 (lv_at hl 5 rfl) ?_
        refine lv_iconst (v := 2) hx hb dL_law_2123 (by decide) ?_
        refine lv_iadd hx hb dL_law_2124 ?_
        refine va_sld hx hb hX hbl hbA hW.2.2.1 hc413 dL_law_2125 ?_
        refine lv_aload_n hx hb dL_law_2126 rfl (lv_at hl 1 rfl) ?_
        refine lv_iload hx hb dL_law_2127 (lv_at hl 5 rfl) ?_
        refine lv_iconst (v := 3) hx hb dL_law_2129 (by decide) ?_
        refine lv_iadd hx hb dL_law_2130 ?_
        refine va_sld hx hb hX hbl hbA hW.2.2.1 hc414 dL_law_2131 ?_
        refine lv_aload_n hx hb dL_law_2132 rfl (lv_at hl 1 rfl) ?_
        refine lv_iload hx hb dL_law_2133 (lv_at hl 5 rfl) ?_
        refine lv_iconst (v := 4) hx hb dL_law_2135 (by decide) ?_
        refine lv_iadd hx hb dL_law_2136 ?_
        refine va_sld hx hb hX hbl hbA hW.2.2.1 hc415 dL_law_2137 ?_
        obtain ⟨v428, σ429, hc426, hs⟩ := ww_bn2 hs
        obtain ⟨hkp, hs⟩ := ww_pif hs
        obtain ⟨hx0, hcs⟩ := lx_s hx0 hcs hkp
        refine ww_ci (va_runV (As := [.int (xs (x4 + (1 : Int32)).toNatClampNeg), .int (xs (x4 + (2 : Int32)).toNatClampNeg), .int (xs (x4 + (3 : Int32)).toNatClampNeg), .int (xs (x4 + (4 : Int32)).toNatClampNeg)]) (rest := []) ⟨hx, hb, hml, hown, hts⟩ (c_X10_harm g hgm l L σ419 (xs (x4 + (1 : Int32)).toNatClampNeg) (xs (x4 + (2 : Int32)).toNatClampNeg) (xs (x4 + (3 : Int32)).toNatClampNeg) (xs (x4 + (4 : Int32)).toNatClampNeg) _ _ hc426) (cwV 4 hts (lw_V q2375 q2376 q2377 q123 q2378) rfl rfl rfl hd_X10_harm ⟨(Nat.le_of_ble_eq_true rfl), (Nat.le_of_ble_eq_true rfl)⟩) (ww_preV hW (pr_st (hW.rd hgm) (Nat.le_of_ble_eq_true rfl)) (obv_0 rfl) rfl) rfl rfl hl.1 rfl (lv_room (Nat.le_of_ble_eq_true rfl)) dL_law_2138 hrm) hW (fun H locs hW => ?_)
        have hc430 : 0 < gN_ σ429 100 := by rw [hkp.1]; exact hc425
        refine lv_istore (lv' := [(6, .int v428), (5, .int v418), (0, .ref b), (1, .ref (L 1 0)), (2, .ref (L 109 0)), (3, .ref (L 100 0)), (4, .int x4)]) hx hb dL_law_2141 hl (by decide) rfl (fun ls hl => ?_)
        refine lv_aload_n hx hb dL_law_2143 rfl (lv_at hl 4 rfl) ?_
        obtain ⟨v433, hc431, hs⟩ := ww_bnd hs
        refine ww_ci (va_runV (As := []) (rest := []) ⟨hx, hb, hml, hown, hts⟩ (c_X10_thrown g hgm l L σ429  _ hc431) (cwV 0 hts (lw_V q1671 q1672 q1673 q123 q1674) rfl rfl rfl hd_X10_thrown ⟨(Nat.le_of_ble_eq_true rfl), (Nat.le_of_ble_eq_true rfl)⟩) (ww_preV hW (pr_st (hW.rd hgm) (Nat.le_of_ble_eq_true rfl)) (obv_0 rfl) rfl) rfl rfl hl.1 rfl (lv_room (Nat.le_of_ble_eq_true rfl)) dL_law_2144 hrm) hW (fun H locs hW => ?_)
        refine lv_iload hx hb dL_law_2147 (lv_at hl 1 rfl) ?_
        refine lv_icmp_eq (tgt := 2154) hx hb dL_law_2149 (by decide) (fun hc434 => ?_) (fun hc434 => ?_)
        · have hs := ww_T hs hc434
          refine lv_iload hx hb dL_law_2154 (lv_at hl 1 rfl) ?_
          refine lv_if_ne (tgt := 2171) hx hb dL_law_2156 (by decide) (fun hc435 => ?_) (fun hc435 => ?_)
          · have hs := ww_F hs hc435
            exact hL2171 L σ429 x4 _ _ _ _ ls hx0 hcs hrm hW (lv_sub hl [2, 3, 4, 5, 6] rfl) hs
          · have hs := ww_T hs hc435
            refine lv_aload_n hx hb dL_law_2159 rfl (lv_at hl 5 rfl) ?_
            refine lv_iconst (v := 0) hx hb dL_law_2160 (by decide) ?_
            refine ww_lald hx hb hW (pr_dy hc430 rfl rfl) (j := (0 : Int32)) (vin_lit rfl) dL_law_2161 ?_
            refine lv_iload hx hb dL_law_2162 (lv_at hl 0 rfl) ?_
            refine lv_i2l hx hb dL_law_2164 rfl ?_
            refine W.lcmp hx hb dL_law_2165 ?_
            refine lv_if_eq (tgt := 2171) hx hb dL_law_2166 (by decide) (fun hc436 => ?_) (fun hc436 => ?_)
            · have hs := ww_T hs hc436
              exact hL2171 L σ429 x4 _ _ _ _ ls hx0 hcs hrm hW (lv_sub hl [2, 3, 4, 5, 6] rfl) hs
            · have hs := ww_F hs hc436
              refine lv_iconst (v := 0) hx hb dL_law_2169 (by decide) ?_
              have hs := ww_S hs
              exact wl_ret hx hb hr hlocks hW hsz hrm (congrArg Prod.fst hs) hr1 dL_law_2170
        · have hs := ww_F hs hc434
          refine lv_iconst (v := 0) hx hb dL_law_2152 (by decide) ?_
          have hs := ww_S hs
          exact wl_ret hx hb hr hlocks hW hsz hrm (congrArg Prod.fst hs) hr1 dL_law_2153
      have hL2014 : ∀ (L : ly_T) (σ : st_T) (x4 : Int32) (H : Heap) (locs : List Loc) (cells slots : Nat) (ls : Array Slot), lext L0 σ0 L σ → bk σ0 σ cells slots → (cells ≤ 1200384 ∧ slots ≤ 5487786) → wv g L σ s H locs → lv_has ls 7 [(0, .ref b), (1, .ref (L 1 0)), (2, .ref (L 109 0)), (3, .ref (L 100 0)), (4, .int x4)] → (m_L_law_L2014 N xs (m_L_law_L3445 N xs (m_L_law_L23 N xs n23))) σ x4 = some (r_, σ_) → W p l e (room_1) s m #[Value.ref b] below meth c H locs cells slots (lw_Z below #[Value.ref b] s) (F0 m 2014 ls []) := by
        have hL2079 : ∀ (L : ly_T) (σ : st_T) (x4 : Int32) (H : Heap) (locs : List Loc) (cells slots : Nat) (ls : Array Slot), lext L0 σ0 L σ → bk σ0 σ cells slots → (cells ≤ 1200384 ∧ slots ≤ 5487786) → wv g L σ s H locs → lv_has ls 7 [(0, .ref b), (1, .ref (L 1 0)), (2, .ref (L 109 0)), (3, .ref (L 100 0)), (4, .int x4)] → (m_L_law_L2079 N xs (m_L_law_L3445 N xs (m_L_law_L23 N xs n23))) σ x4 = some (r_, σ_) → W p l e (room_1) s m #[Value.ref b] below meth c H locs cells slots (lw_Z below #[Value.ref b] s) (F0 m 2079 ls []) := by
          intro L σ x4 H locs cells slots ls hx0 hcs hrm hW hl hs
          unfold m_L_law_L2079 at hs
          refine lv_goto (tgt := 3445) hx hb dL_law_2079 (by decide) ?_
          exact hL3445 L σ x4 _ _ _ _ ls hx0 hcs hrm hW (lv_sub hl [0, 1, 2, 3, 4] rfl) hs
        intro L σ x4 H locs cells slots ls hx0 hcs hrm hW hl hs
        unfold m_L_law_L2014 at hs
        refine lv_aload_n hx hb dL_law_2014 rfl (lv_at hl 1 rfl) ?_
        refine lv_aload_n hx hb dL_law_2015 rfl (lv_at hl 0 rfl) ?_
        refine lv_iload hx hb dL_law_2016 (lv_at hl 4 rfl) ?_
        refine lv_iconst (v := 1) hx hb dL_law_2018 (by decide) ?_
        refine lv_iadd hx hb dL_law_2019 ?_
        obtain ⟨hc437, hs⟩ := ww_chk hs
        refine va_sld hx hb hX hbl hbA hW.2.2.1 hc437 dL_law_2020 ?_
        refine lv_aload_n hx hb dL_law_2021 rfl (lv_at hl 0 rfl) ?_
        refine lv_iload hx hb dL_law_2022 (lv_at hl 4 rfl) ?_
        refine lv_iconst (v := 2) hx hb dL_law_2024 (by decide) ?_
        refine lv_iadd hx hb dL_law_2025 ?_
        obtain ⟨hc438, hs⟩ := ww_chk hs
        refine va_sld hx hb hX hbl hbA hW.2.2.1 hc438 dL_law_2026 ?_
        refine lv_aload_n hx hb dL_law_2027 rfl (lv_at hl 3 rfl) ?_
        obtain ⟨v441, σ442, hc439, hs⟩ := ww_bn2 hs
        have hp443 : pr σ 1 0 := (pr_st (hW.rd hgm) (Nat.le_of_ble_eq_true rfl))
        have hp444 : pr σ 109 0 := (pr_st (hW.rd hgm) (Nat.le_of_ble_eq_true rfl))
        obtain ⟨hc445, hs⟩ := ww_chk hs
        have hp446 : pr σ 100 0 := (pr_dy hc445 rfl rfl)
        obtain ⟨hc447, hs⟩ := ww_chk hs
        obtain ⟨hs, hck⟩ := ww_ck2 hs
        have hrm1 := le2_ (hcs.roomC hc447 hck) hRc
        refine wa_ci (vx_runSW (As := [.ref (L 1 0), .int (xs (x4 + (1 : Int32)).toNatClampNeg), .int (xs (x4 + (2 : Int32)).toNatClampNeg), .ref (L 100 0)]) (rest := []) ⟨hx, hb, hml, hown, hts⟩ (c_X0_find g hgm l L σ (xs (x4 + (1 : Int32)).toNatClampNeg) (xs (x4 + (2 : Int32)).toNatClampNeg) hst _ _ hc439) (vx_cwSW 4 hts (lw_SW q1375 q1376 q110 q1377) rfl rfl rfl hd_X0_find.2 ⟨(Nat.le_of_ble_eq_true rfl), (Nat.le_of_ble_eq_true rfl)⟩) (ww_preS hW) rfl rfl hl.1 rfl (lv_room (Nat.le_of_ble_eq_true rfl)) dL_law_2028 hrm1) hW (fun H locs L hx1 hW => ?_)
        have hc448 : 0 < gN_ σ442 100 := Nat.lt_of_lt_of_le hc445 (hx1.2.1 100)
        have hcs := hcs.call hc447
        have hrm := hrm1
        have hl : lv_has ls 7 [(0, .ref b), (1, .ref (L 1 0)), (2, .ref (L 109 0)), (3, .ref (L 100 0)), (4, .int x4)] := by rw [hx1.at hp443 (by decide), hx1.at hp444 (by decide), hx1.at hp446 (by decide)]; exact hl
        have hx0 := hx0.trans hx1
        refine lv_istore (lv' := [(5, .int v441), (0, .ref b), (1, .ref (L 1 0)), (2, .ref (L 109 0)), (3, .ref (L 100 0)), (4, .int x4)]) hx hb dL_law_2031 hl (by decide) rfl (fun ls hl => ?_)
        refine lv_aload_n hx hb dL_law_2033 rfl (lv_at hl 3 rfl) ?_
        refine lv_aload_n hx hb dL_law_2034 rfl (lv_at hl 1 rfl) ?_
        refine lv_iload hx hb dL_law_2035 (lv_at hl 5 rfl) ?_
        refine lv_iconst (v := 1) hx hb dL_law_2037 (by decide) ?_
        refine lv_iadd hx hb dL_law_2038 ?_
        refine va_sld hx hb hX hbl hbA hW.2.2.1 hc437 dL_law_2039 ?_
        refine lv_aload_n hx hb dL_law_2040 rfl (lv_at hl 1 rfl) ?_
        refine lv_iload hx hb dL_law_2041 (lv_at hl 5 rfl) ?_
        refine lv_iconst (v := 2) hx hb dL_law_2043 (by decide) ?_
        refine lv_iadd hx hb dL_law_2044 ?_
        refine va_sld hx hb hX hbl hbA hW.2.2.1 hc438 dL_law_2045 ?_
        obtain ⟨v451, σ452, hc449, hs⟩ := ww_bn2 hs
        obtain ⟨hkp, hs⟩ := ww_pif hs
        obtain ⟨hx0, hcs⟩ := lx_s hx0 hcs hkp
        refine ww_ci (va_runV (As := [.int (xs (x4 + (1 : Int32)).toNatClampNeg), .int (xs (x4 + (2 : Int32)).toNatClampNeg)]) (rest := []) ⟨hx, hb, hml, hown, hts⟩ (c_X10_find g hgm l L σ442 (xs (x4 + (1 : Int32)).toNatClampNeg) (xs (x4 + (2 : Int32)).toNatClampNeg) _ _ hc449) (cwV 2 hts (lw_V q2362 q2363 q2364 q123 q2365) rfl rfl rfl hd_X10_find ⟨(Nat.le_of_ble_eq_true rfl), (Nat.le_of_ble_eq_true rfl)⟩) (ww_preV hW (pr_st (hW.rd hgm) (Nat.le_of_ble_eq_true rfl)) (obv_0 rfl) rfl) rfl rfl hl.1 rfl (lv_room (Nat.le_of_ble_eq_true rfl)) dL_law_2046 hrm) hW (fun H locs hW => ?_)
        have hc453 : 0 < gN_ σ452 100 := by rw [hkp.1]; exact hc448
        refine lv_istore (lv' := [(6, .int v451), (5, .int v441), (0, .ref b), (1, .ref (L 1 0)), (2, .ref (L 109 0)), (3, .ref (L 100 0)), (4, .int x4)]) hx hb dL_law_2049 hl (by decide) rfl (fun ls hl => ?_)
        refine lv_aload_n hx hb dL_law_2051 rfl (lv_at hl 4 rfl) ?_
        obtain ⟨v456, hc454, hs⟩ := ww_bnd hs
        refine ww_ci (va_runV (As := []) (rest := []) ⟨hx, hb, hml, hown, hts⟩ (c_X10_thrown g hgm l L σ452  _ hc454) (cwV 0 hts (lw_V q1671 q1672 q1673 q123 q1674) rfl rfl rfl hd_X10_thrown ⟨(Nat.le_of_ble_eq_true rfl), (Nat.le_of_ble_eq_true rfl)⟩) (ww_preV hW (pr_st (hW.rd hgm) (Nat.le_of_ble_eq_true rfl)) (obv_0 rfl) rfl) rfl rfl hl.1 rfl (lv_room (Nat.le_of_ble_eq_true rfl)) dL_law_2052 hrm) hW (fun H locs hW => ?_)
        refine lv_iload hx hb dL_law_2055 (lv_at hl 1 rfl) ?_
        refine lv_icmp_eq (tgt := 2062) hx hb dL_law_2057 (by decide) (fun hc457 => ?_) (fun hc457 => ?_)
        · have hs := ww_T hs hc457
          refine lv_iload hx hb dL_law_2062 (lv_at hl 1 rfl) ?_
          refine lv_if_ne (tgt := 2079) hx hb dL_law_2064 (by decide) (fun hc458 => ?_) (fun hc458 => ?_)
          · have hs := ww_F hs hc458
            exact hL2079 L σ452 x4 _ _ _ _ ls hx0 hcs hrm hW (lv_sub hl [2, 3, 4, 5, 6] rfl) hs
          · have hs := ww_T hs hc458
            refine lv_aload_n hx hb dL_law_2067 rfl (lv_at hl 5 rfl) ?_
            refine lv_iconst (v := 0) hx hb dL_law_2068 (by decide) ?_
            refine ww_lald hx hb hW (pr_dy hc453 rfl rfl) (j := (0 : Int32)) (vin_lit rfl) dL_law_2069 ?_
            refine lv_iload hx hb dL_law_2070 (lv_at hl 0 rfl) ?_
            refine lv_i2l hx hb dL_law_2072 rfl ?_
            refine W.lcmp hx hb dL_law_2073 ?_
            refine lv_if_eq (tgt := 2079) hx hb dL_law_2074 (by decide) (fun hc459 => ?_) (fun hc459 => ?_)
            · have hs := ww_T hs hc459
              exact hL2079 L σ452 x4 _ _ _ _ ls hx0 hcs hrm hW (lv_sub hl [2, 3, 4, 5, 6] rfl) hs
            · have hs := ww_F hs hc459
              refine lv_iconst (v := 0) hx hb dL_law_2077 (by decide) ?_
              have hs := ww_S hs
              exact wl_ret hx hb hr hlocks hW hsz hrm (congrArg Prod.fst hs) hr1 dL_law_2078
        · have hs := ww_F hs hc457
          refine lv_iconst (v := 0) hx hb dL_law_2060 (by decide) ?_
          have hs := ww_S hs
          exact wl_ret hx hb hr hlocks hW hsz hrm (congrArg Prod.fst hs) hr1 dL_law_2061
      have hL1946 : ∀ (L : ly_T) (σ : st_T) (x4 : Int32) (H : Heap) (locs : List Loc) (cells slots : Nat) (ls : Array Slot), lext L0 σ0 L σ → bk σ0 σ cells slots → (cells ≤ 1200384 ∧ slots ≤ 5487786) → wv g L σ s H locs → lv_has ls 7 [(0, .ref b), (1, .ref (L 1 0)), (2, .ref (L 109 0)), (3, .ref (L 100 0)), (4, .int x4)] → (m_L_law_L1946 N xs (m_L_law_L3445 N xs (m_L_law_L23 N xs n23))) σ x4 = some (r_, σ_) → W p l e (room_1) s m #[Value.ref b] below meth c H locs cells slots (lw_Z below #[Value.ref b] s) (F0 m 1946 ls []) := by
        have hL2011 : ∀ (L : ly_T) (σ : st_T) (x4 : Int32) (H : Heap) (locs : List Loc) (cells slots : Nat) (ls : Array Slot), lext L0 σ0 L σ → bk σ0 σ cells slots → (cells ≤ 1200384 ∧ slots ≤ 5487786) → wv g L σ s H locs → lv_has ls 7 [(0, .ref b), (1, .ref (L 1 0)), (2, .ref (L 109 0)), (3, .ref (L 100 0)), (4, .int x4)] → (m_L_law_L2011 N xs (m_L_law_L3445 N xs (m_L_law_L23 N xs n23))) σ x4 = some (r_, σ_) → W p l e (room_1) s m #[Value.ref b] below meth c H locs cells slots (lw_Z below #[Value.ref b] s) (F0 m 2011 ls []) := by
          intro L σ x4 H locs cells slots ls hx0 hcs hrm hW hl hs
          unfold m_L_law_L2011 at hs
          refine lv_goto (tgt := 3445) hx hb dL_law_2011 (by decide) ?_
          exact hL3445 L σ x4 _ _ _ _ ls hx0 hcs hrm hW (lv_sub hl [0, 1, 2, 3, 4] rfl) hs
        intro L σ x4 H locs cells slots ls hx0 hcs hrm hW hl hs
        unfold m_L_law_L1946 at hs
        refine lv_aload_n hx hb dL_law_1946 rfl (lv_at hl 1 rfl) ?_
        refine lv_aload_n hx hb dL_law_1947 rfl (lv_at hl 0 rfl) ?_
        refine lv_iload hx hb dL_law_1948 (lv_at hl 4 rfl) ?_
        refine lv_iconst (v := 1) hx hb dL_law_1950 (by decide) ?_
        refine lv_iadd hx hb dL_law_1951 ?_
        obtain ⟨hc460, hs⟩ := ww_chk hs
        refine va_sld hx hb hX hbl hbA hW.2.2.1 hc460 dL_law_1952 ?_
        refine lv_aload_n hx hb dL_law_1953 rfl (lv_at hl 0 rfl) ?_
        refine lv_iload hx hb dL_law_1954 (lv_at hl 4 rfl) ?_
        refine lv_iconst (v := 2) hx hb dL_law_1956 (by decide) ?_
        refine lv_iadd hx hb dL_law_1957 ?_
        obtain ⟨hc461, hs⟩ := ww_chk hs
        refine va_sld hx hb hX hbl hbA hW.2.2.1 hc461 dL_law_1958 ?_
        refine lv_aload_n hx hb dL_law_1959 rfl (lv_at hl 3 rfl) ?_
        obtain ⟨v464, σ465, hc462, hs⟩ := ww_bn2 hs
        have hp466 : pr σ 1 0 := (pr_st (hW.rd hgm) (Nat.le_of_ble_eq_true rfl))
        have hp467 : pr σ 109 0 := (pr_st (hW.rd hgm) (Nat.le_of_ble_eq_true rfl))
        obtain ⟨hc468, hs⟩ := ww_chk hs
        have hp469 : pr σ 100 0 := (pr_dy hc468 rfl rfl)
        obtain ⟨hc470, hs⟩ := ww_chk hs
        obtain ⟨hs, hck⟩ := ww_ck2 hs
        have hrm1 := le2_ (hcs.roomC hc470 hck) hRc
        refine wa_ci (vx_runSW (As := [.ref (L 1 0), .int (xs (x4 + (1 : Int32)).toNatClampNeg), .int (xs (x4 + (2 : Int32)).toNatClampNeg), .ref (L 100 0)]) (rest := []) ⟨hx, hb, hml, hown, hts⟩ (c_X0_loads g hgm l L σ (xs (x4 + (1 : Int32)).toNatClampNeg) (xs (x4 + (2 : Int32)).toNatClampNeg) hst _ _ hc462) (vx_cwSW 4 hts (lw_SW q1368 q1369 q110 q1370) rfl rfl rfl hd_X0_loads.2 ⟨(Nat.le_of_ble_eq_true rfl), (Nat.le_of_ble_eq_true rfl)⟩) (ww_preS hW) rfl rfl hl.1 rfl (lv_room (Nat.le_of_ble_eq_true rfl)) dL_law_1960 hrm1) hW (fun H locs L hx1 hW => ?_)
        have hc471 : 0 < gN_ σ465 100 := Nat.lt_of_lt_of_le hc468 (hx1.2.1 100)
        have hcs := hcs.call hc470
        have hrm := hrm1
        have hl : lv_has ls 7 [(0, .ref b), (1, .ref (L 1 0)), (2, .ref (L 109 0)), (3, .ref (L 100 0)), (4, .int x4)] := by rw [hx1.at hp466 (by decide), hx1.at hp467 (by decide), hx1.at hp469 (by decide)]; exact hl
        have hx0 := hx0.trans hx1
        refine lv_istore (lv' := [(5, .int v464), (0, .ref b), (1, .ref (L 1 0)), (2, .ref (L 109 0)), (3, .ref (L 100 0)), (4, .int x4)]) hx hb dL_law_1963 hl (by decide) rfl (fun ls hl => ?_)
        refine lv_aload_n hx hb dL_law_1965 rfl (lv_at hl 3 rfl) ?_
        refine lv_aload_n hx hb dL_law_1966 rfl (lv_at hl 1 rfl) ?_
        refine lv_iload hx hb dL_law_1967 (lv_at hl 5 rfl) ?_
        refine lv_iconst (v := 1) hx hb dL_law_1969 (by decide) ?_
        refine lv_iadd hx hb dL_law_1970 ?_
        refine va_sld hx hb hX hbl hbA hW.2.2.1 hc460 dL_law_1971 ?_
        refine lv_aload_n hx hb dL_law_1972 rfl (lv_at hl 1 rfl) ?_
        refine lv_iload hx hb dL_law_1973 (lv_at hl 5 rfl) ?_
        refine lv_iconst (v := 2) hx hb dL_law_1975 (by decide) ?_
        refine lv_iadd hx hb dL_law_1976 ?_
        refine va_sld hx hb hX hbl hbA hW.2.2.1 hc461 dL_law_1977 ?_
        obtain ⟨v474, σ475, hc472, hs⟩ := ww_bn2 hs
        obtain ⟨hkp, hs⟩ := ww_pif hs
        obtain ⟨hx0, hcs⟩ := lx_s hx0 hcs hkp
        refine ww_ci (va_runV (As := [.int (xs (x4 + (1 : Int32)).toNatClampNeg), .int (xs (x4 + (2 : Int32)).toNatClampNeg)]) (rest := []) ⟨hx, hb, hml, hown, hts⟩ (c_X10_loads g hgm l L σ465 (xs (x4 + (1 : Int32)).toNatClampNeg) (xs (x4 + (2 : Int32)).toNatClampNeg) _ _ hc472) (cwV 2 hts (lw_V q2358 q2359 q2360 q123 q2361) rfl rfl rfl hd_X10_loads ⟨(Nat.le_of_ble_eq_true rfl), (Nat.le_of_ble_eq_true rfl)⟩) (ww_preV hW (pr_st (hW.rd hgm) (Nat.le_of_ble_eq_true rfl)) (obv_0 rfl) rfl) rfl rfl hl.1 rfl (lv_room (Nat.le_of_ble_eq_true rfl)) dL_law_1978 hrm) hW (fun H locs hW => ?_)
        have hc476 : 0 < gN_ σ475 100 := by rw [hkp.1]; exact hc471
        refine lv_istore (lv' := [(6, .int v474), (5, .int v464), (0, .ref b), (1, .ref (L 1 0)), (2, .ref (L 109 0)), (3, .ref (L 100 0)), (4, .int x4)]) hx hb dL_law_1981 hl (by decide) rfl (fun ls hl => ?_)
        refine lv_aload_n hx hb dL_law_1983 rfl (lv_at hl 4 rfl) ?_
        obtain ⟨v479, hc477, hs⟩ := ww_bnd hs
        refine ww_ci (va_runV (As := []) (rest := []) ⟨hx, hb, hml, hown, hts⟩ (c_X10_thrown g hgm l L σ475  _ hc477) (cwV 0 hts (lw_V q1671 q1672 q1673 q123 q1674) rfl rfl rfl hd_X10_thrown ⟨(Nat.le_of_ble_eq_true rfl), (Nat.le_of_ble_eq_true rfl)⟩) (ww_preV hW (pr_st (hW.rd hgm) (Nat.le_of_ble_eq_true rfl)) (obv_0 rfl) rfl) rfl rfl hl.1 rfl (lv_room (Nat.le_of_ble_eq_true rfl)) dL_law_1984 hrm) hW (fun H locs hW => ?_)
        refine lv_iload hx hb dL_law_1987 (lv_at hl 1 rfl) ?_
        refine lv_icmp_eq (tgt := 1994) hx hb dL_law_1989 (by decide) (fun hc480 => ?_) (fun hc480 => ?_)
        · have hs := ww_T hs hc480
          refine lv_iload hx hb dL_law_1994 (lv_at hl 1 rfl) ?_
          refine lv_if_ne (tgt := 2011) hx hb dL_law_1996 (by decide) (fun hc481 => ?_) (fun hc481 => ?_)
          · have hs := ww_F hs hc481
            exact hL2011 L σ475 x4 _ _ _ _ ls hx0 hcs hrm hW (lv_sub hl [2, 3, 4, 5, 6] rfl) hs
          · have hs := ww_T hs hc481
            refine lv_aload_n hx hb dL_law_1999 rfl (lv_at hl 5 rfl) ?_
            refine lv_iconst (v := 0) hx hb dL_law_2000 (by decide) ?_
            refine ww_lald hx hb hW (pr_dy hc476 rfl rfl) (j := (0 : Int32)) (vin_lit rfl) dL_law_2001 ?_
            refine lv_iload hx hb dL_law_2002 (lv_at hl 0 rfl) ?_
            refine lv_i2l hx hb dL_law_2004 rfl ?_
            refine W.lcmp hx hb dL_law_2005 ?_
            refine lv_if_eq (tgt := 2011) hx hb dL_law_2006 (by decide) (fun hc482 => ?_) (fun hc482 => ?_)
            · have hs := ww_T hs hc482
              exact hL2011 L σ475 x4 _ _ _ _ ls hx0 hcs hrm hW (lv_sub hl [2, 3, 4, 5, 6] rfl) hs
            · have hs := ww_F hs hc482
              refine lv_iconst (v := 0) hx hb dL_law_2009 (by decide) ?_
              have hs := ww_S hs
              exact wl_ret hx hb hr hlocks hW hsz hrm (congrArg Prod.fst hs) hr1 dL_law_2010
        · have hs := ww_F hs hc480
          refine lv_iconst (v := 0) hx hb dL_law_1992 (by decide) ?_
          have hs := ww_S hs
          exact wl_ret hx hb hr hlocks hW hsz hrm (congrArg Prod.fst hs) hr1 dL_law_1993
      have hL1854 : ∀ (L : ly_T) (σ : st_T) (x4 : Int32) (H : Heap) (locs : List Loc) (cells slots : Nat) (ls : Array Slot), lext L0 σ0 L σ → bk σ0 σ cells slots → (cells ≤ 1200384 ∧ slots ≤ 5487786) → wv g L σ s H locs → lv_has ls 7 [(0, .ref b), (1, .ref (L 1 0)), (2, .ref (L 109 0)), (3, .ref (L 100 0)), (4, .int x4)] → (m_L_law_L1854 N xs (m_L_law_L3445 N xs (m_L_law_L23 N xs n23))) σ x4 = some (r_, σ_) → W p l e (room_1) s m #[Value.ref b] below meth c H locs cells slots (lw_Z below #[Value.ref b] s) (F0 m 1854 ls []) := by
        have hL1943 : ∀ (L : ly_T) (σ : st_T) (x4 : Int32) (H : Heap) (locs : List Loc) (cells slots : Nat) (ls : Array Slot), lext L0 σ0 L σ → bk σ0 σ cells slots → (cells ≤ 1200384 ∧ slots ≤ 5487786) → wv g L σ s H locs → lv_has ls 7 [(0, .ref b), (1, .ref (L 1 0)), (2, .ref (L 109 0)), (3, .ref (L 100 0)), (4, .int x4)] → (m_L_law_L1943 N xs (m_L_law_L3445 N xs (m_L_law_L23 N xs n23))) σ x4 = some (r_, σ_) → W p l e (room_1) s m #[Value.ref b] below meth c H locs cells slots (lw_Z below #[Value.ref b] s) (F0 m 1943 ls []) := by
          intro L σ x4 H locs cells slots ls hx0 hcs hrm hW hl hs
          unfold m_L_law_L1943 at hs
          refine lv_goto (tgt := 3445) hx hb dL_law_1943 (by decide) ?_
          exact hL3445 L σ x4 _ _ _ _ ls hx0 hcs hrm hW (lv_sub hl [0, 1, 2, 3, 4] rfl) hs
        intro L σ x4 H locs cells slots ls hx0 hcs hrm hW hl hs
        unfold m_L_law_L1854 at hs
        refine lv_aload_n hx hb dL_law_1854 rfl (lv_at hl 1 rfl) ?_
        refine lv_aload_n hx hb dL_law_1855 rfl (lv_at hl 0 rfl) ?_
        refine lv_iload hx hb dL_law_1856 (lv_at hl 4 rfl) ?_
        refine lv_iconst (v := 1) hx hb dL_law_1858 (by decide) ?_
        refine lv_iadd hx hb dL_law_1859 ?_
        obtain ⟨hc483, hs⟩ := ww_chk hs
        refine va_sld hx hb hX hbl hbA hW.2.2.1 hc483 dL_law_1860 ?_
        refine lv_aload_n hx hb dL_law_1861 rfl (lv_at hl 0 rfl) ?_
        refine lv_iload hx hb dL_law_1862 (lv_at hl 4 rfl) ?_
        refine lv_iconst (v := 2) hx hb dL_law_1864 (by decide) ?_
        refine lv_iadd hx hb dL_law_1865 ?_
        obtain ⟨hc484, hs⟩ := ww_chk hs
        refine va_sld hx hb hX hbl hbA hW.2.2.1 hc484 dL_law_1866 ?_
        refine lv_aload_n hx hb dL_law_1867 rfl (lv_at hl 0 rfl) ?_
        refine lv_iload hx hb dL_law_1868 (lv_at hl 4 rfl) ?_
        refine lv_iconst (v := 3) hx hb dL_law_1870 (by decide) ?_
        refine lv_iadd hx hb dL_law_1871 ?_
        obtain ⟨hc485, hs⟩ := ww_chk hs
        refine va_sld hx hb hX hbl hbA hW.2.2.1 hc485 dL_law_1872 ?_
        refine lv_aload_n hx hb dL_law_1873 rfl (lv_at hl 0 rfl) ?_
        refine lv_iload hx hb dL_law_1874 (lv_at hl 4 rfl) ?_
        refine lv_iconst (v := 4) hx hb dL_law_1876 (by decide) ?_
        refine lv_iadd hx hb dL_law_1877 ?_
        obtain ⟨hc486, hs⟩ := ww_chk hs
        refine va_sld hx hb hX hbl hbA hW.2.2.1 hc486 dL_law_1878 ?_
        refine lv_aload_n hx hb dL_law_1879 rfl (lv_at hl 3 rfl) ?_
        obtain ⟨v489, σ490, hc487, hs⟩ := ww_bn2 hs
        have hp491 : pr σ 1 0 := (pr_st (hW.rd hgm) (Nat.le_of_ble_eq_true rfl))
        have hp492 : pr σ 109 0 := (pr_st (hW.rd hgm) (Nat.le_of_ble_eq_true rfl))
        obtain ⟨hc493, hs⟩ := ww_chk hs
        have hp494 : pr σ 100 0 := (pr_dy hc493 rfl rfl)
        obtain ⟨hc495, hs⟩ := ww_chk hs
        obtain ⟨hs, hck⟩ := ww_ck2 hs
        have hrm1 := le2_ (hcs.roomC hc495 hck) hRc
        refine wa_ci (vx_runSW (As := [.ref (L 1 0), .int (xs (x4 + (1 : Int32)).toNatClampNeg), .int (xs (x4 + (2 : Int32)).toNatClampNeg), .int (xs (x4 + (3 : Int32)).toNatClampNeg), .int (xs (x4 + (4 : Int32)).toNatClampNeg), .ref (L 100 0)]) (rest := []) ⟨hx, hb, hml, hown, hts⟩ (c_X0_rota g hgm l L σ (xs (x4 + (1 : Int32)).toNatClampNeg) (xs (x4 + (2 : Int32)).toNatClampNeg) (xs (x4 + (3 : Int32)).toNatClampNeg) (xs (x4 + (4 : Int32)).toNatClampNeg) hst _ _ hc487) (vx_cwSW 6 hts (lw_SW q1295 q1296 q110 q1297) rfl rfl rfl hd_X0_rota.2 ⟨(Nat.le_of_ble_eq_true rfl), (Nat.le_of_ble_eq_true rfl)⟩) (ww_preS hW) rfl rfl hl.1 rfl (lv_room (Nat.le_of_ble_eq_true rfl)) dL_law_1880 hrm1) hW (fun H locs L hx1 hW => ?_)
        have hc496 : 0 < gN_ σ490 100 := Nat.lt_of_lt_of_le hc493 (hx1.2.1 100)
        have hcs := hcs.call hc495
        have hrm := hrm1
        have hl : lv_has ls 7 [(0, .ref b), (1, .ref (L 1 0)), (2, .ref (L 109 0)), (3, .ref (L 100 0)), (4, .int x4)] := by rw [hx1.at hp491 (by decide), hx1.at hp492 (by decide), hx1.at hp494 (by decide)]; exact hl
        have hx0 := hx0.trans hx1
        refine lv_istore (lv' := [(5, .int v489), (0, .ref b), (1, .ref (L 1 0)), (2, .ref (L 109 0)), (3, .ref (L 100 0)), (4, .int x4)]) hx hb dL_law_1883 hl (by decide) rfl (fun ls hl => ?_)
        refine lv_aload_n hx hb dL_law_1885 rfl (lv_at hl 3 rfl) ?_
        refine lv_aload_n hx hb dL_law_1886 rfl (lv_at hl 1 rfl) ?_
        refine lv_iload hx hb dL_law_1887 (lv_at hl 5 rfl) ?_
        refine lv_iconst (v := 1) hx hb dL_law_1889 (by decide) ?_
        refine lv_iadd hx hb dL_law_1890 ?_
        refine va_sld hx hb hX hbl hbA hW.2.2.1 hc483 dL_law_1891 ?_
        refine lv_aload_n hx hb dL_law_1892 rfl (lv_at hl 1 rfl) ?_
        refine lv_iload hx hb dL_law_1893 (lv_at hl 5 rfl) ?_
        refine lv_iconst (v := 2) hx hb dL_law_1895 (by decide) ?_
        refine lv_iadd hx hb dL_law_1896 ?_
        refine va_sld hx hb hX hbl hbA hW.2.2.1 hc484 dL_law_1897 ?_
        refine lv_aload_n hx hb dL_law_1898 rfl (lv_at hl 1 rfl) ?_
        refine lv_iload hx hb dL_law_1899 (lv_at hl 5 rfl) ?_
        refine lv_iconst (v := 3) hx hb dL_law_1901 (by decide) ?_
        refine lv_iadd hx hb dL_law_1902 ?_
        refine va_sld hx hb hX hbl hbA hW.2.2.1 hc485 dL_law_1903 ?_
        refine lv_aload_n hx hb dL_law_1904 rfl (lv_at hl 1 rfl) ?_
        refine lv_iload hx hb dL_law_1905 (lv_at hl 5 rfl) ?_
        refine lv_iconst (v := 4) hx hb dL_law_1907 (by decide) ?_
        refine lv_iadd hx hb dL_law_1908 ?_
        refine va_sld hx hb hX hbl hbA hW.2.2.1 hc486 dL_law_1909 ?_
        obtain ⟨v499, σ500, hc497, hs⟩ := ww_bn2 hs
        obtain ⟨hkp, hs⟩ := ww_pif hs
        obtain ⟨hx0, hcs⟩ := lx_s hx0 hcs hkp
        refine ww_ci (va_runV (As := [.int (xs (x4 + (1 : Int32)).toNatClampNeg), .int (xs (x4 + (2 : Int32)).toNatClampNeg), .int (xs (x4 + (3 : Int32)).toNatClampNeg), .int (xs (x4 + (4 : Int32)).toNatClampNeg)]) (rest := []) ⟨hx, hb, hml, hown, hts⟩ (c_X10_rota g hgm l L σ490 (xs (x4 + (1 : Int32)).toNatClampNeg) (xs (x4 + (2 : Int32)).toNatClampNeg) (xs (x4 + (3 : Int32)).toNatClampNeg) (xs (x4 + (4 : Int32)).toNatClampNeg) _ _ hc497) (cwV 4 hts (lw_V q2331 q2332 q2333 q123 q2334) rfl rfl rfl hd_X10_rota ⟨(Nat.le_of_ble_eq_true rfl), (Nat.le_of_ble_eq_true rfl)⟩) (ww_preV hW (pr_st (hW.rd hgm) (Nat.le_of_ble_eq_true rfl)) (obv_0 rfl) rfl) rfl rfl hl.1 rfl (lv_room (Nat.le_of_ble_eq_true rfl)) dL_law_1910 hrm) hW (fun H locs hW => ?_)
        have hc501 : 0 < gN_ σ500 100 := by rw [hkp.1]; exact hc496
        refine lv_istore (lv' := [(6, .int v499), (5, .int v489), (0, .ref b), (1, .ref (L 1 0)), (2, .ref (L 109 0)), (3, .ref (L 100 0)), (4, .int x4)]) hx hb dL_law_1913 hl (by decide) rfl (fun ls hl => ?_)
        refine lv_aload_n hx hb dL_law_1915 rfl (lv_at hl 4 rfl) ?_
        obtain ⟨v504, hc502, hs⟩ := ww_bnd hs
        refine ww_ci (va_runV (As := []) (rest := []) ⟨hx, hb, hml, hown, hts⟩ (c_X10_thrown g hgm l L σ500  _ hc502) (cwV 0 hts (lw_V q1671 q1672 q1673 q123 q1674) rfl rfl rfl hd_X10_thrown ⟨(Nat.le_of_ble_eq_true rfl), (Nat.le_of_ble_eq_true rfl)⟩) (ww_preV hW (pr_st (hW.rd hgm) (Nat.le_of_ble_eq_true rfl)) (obv_0 rfl) rfl) rfl rfl hl.1 rfl (lv_room (Nat.le_of_ble_eq_true rfl)) dL_law_1916 hrm) hW (fun H locs hW => ?_)
        refine lv_iload hx hb dL_law_1919 (lv_at hl 1 rfl) ?_
        refine lv_icmp_eq (tgt := 1926) hx hb dL_law_1921 (by decide) (fun hc505 => ?_) (fun hc505 => ?_)
        · have hs := ww_T hs hc505
          refine lv_iload hx hb dL_law_1926 (lv_at hl 1 rfl) ?_
          refine lv_if_ne (tgt := 1943) hx hb dL_law_1928 (by decide) (fun hc506 => ?_) (fun hc506 => ?_)
          · have hs := ww_F hs hc506
            exact hL1943 L σ500 x4 _ _ _ _ ls hx0 hcs hrm hW (lv_sub hl [2, 3, 4, 5, 6] rfl) hs
          · have hs := ww_T hs hc506
            refine lv_aload_n hx hb dL_law_1931 rfl (lv_at hl 5 rfl) ?_
            refine lv_iconst (v := 0) hx hb dL_law_1932 (by decide) ?_
            refine ww_lald hx hb hW (pr_dy hc501 rfl rfl) (j := (0 : Int32)) (vin_lit rfl) dL_law_1933 ?_
            refine lv_iload hx hb dL_law_1934 (lv_at hl 0 rfl) ?_
            refine lv_i2l hx hb dL_law_1936 rfl ?_
            refine W.lcmp hx hb dL_law_1937 ?_
            refine lv_if_eq (tgt := 1943) hx hb dL_law_1938 (by decide) (fun hc507 => ?_) (fun hc507 => ?_)
            · have hs := ww_T hs hc507
              exact hL1943 L σ500 x4 _ _ _ _ ls hx0 hcs hrm hW (lv_sub hl [2, 3, 4, 5, 6] rfl) hs
            · have hs := ww_F hs hc507
              refine lv_iconst (v := 0) hx hb dL_law_1941 (by decide) ?_
              have hs := ww_S hs
              exact wl_ret hx hb hr hlocks hW hsz hrm (congrArg Prod.fst hs) hr1 dL_law_1942
        · have hs := ww_F hs hc505
          refine lv_iconst (v := 0) hx hb dL_law_1924 (by decide) ?_
          have hs := ww_S hs
          exact wl_ret hx hb hr hlocks hW hsz hrm (congrArg Prod.fst hs) hr1 dL_law_1925
      have hL1751 : ∀ (L : ly_T) (σ : st_T) (x4 : Int32) (H : Heap) (locs : List Loc) (cells slots : Nat) (ls : Array Slot), lext L0 σ0 L σ → bk σ0 σ cells slots → (cells ≤ 1200384 ∧ slots ≤ 5487786) → wv g L σ s H locs → lv_has ls 7 [(0, .ref b), (1, .ref (L 1 0)), (2, .ref (L 109 0)), (3, .ref (L 100 0)), (4, .int x4)] → (m_L_law_L1751 N xs (m_L_law_L3445 N xs (m_L_law_L23 N xs n23))) σ x4 = some (r_, σ_) → W p l e (room_1) s m #[Value.ref b] below meth c H locs cells slots (lw_Z below #[Value.ref b] s) (F0 m 1751 ls []) := by
        have hL1778 : ∀ (L : ly_T) (σ : st_T) (x4 : Int32) (t1 : Int32) (t2 : Int32) (t3 : Int32) (H : Heap) (locs : List Loc) (cells slots : Nat) (ls : Array Slot), lext L0 σ0 L σ → bk σ0 σ cells slots → (cells ≤ 1200384 ∧ slots ≤ 5487786) → wv g L σ s H locs → lv_has ls 7 [(0, .ref b), (1, .ref (L 1 0)), (2, .ref (L 109 0)), (3, .ref (L 100 0)), (4, .int x4)] → (m_L_law_L1778 N xs (m_L_law_L3445 N xs (m_L_law_L23 N xs n23))) σ x4 t1 t2 t3 = some (r_, σ_) → W p l e (room_1) s m #[Value.ref b] below meth c H locs cells slots (lw_Z below #[Value.ref b] s) (F0 m 1778 ls [.int t3, .int t2, .int t1, .ref (L 1 0)]) := by
          have hL1811 : ∀ (L : ly_T) (σ : st_T) (x4 : Int32) (x5 : Int32) (t1 : Int32) (t2 : Int32) (t3 : Int32) (H : Heap) (locs : List Loc) (cells slots : Nat) (ls : Array Slot), lext L0 σ0 L σ → bk σ0 σ cells slots → (cells ≤ 1200384 ∧ slots ≤ 5487786) → wv g L σ s H locs → lv_has ls 7 [(0, .ref b), (1, .ref (L 1 0)), (2, .ref (L 109 0)), (3, .ref (L 100 0)), (4, .int x4), (5, .int x5)] → (m_L_law_L1811 N xs (m_L_law_L3445 N xs (m_L_law_L23 N xs n23))) σ x4 x5 t1 t2 t3 = some (r_, σ_) → W p l e (room_1) s m #[Value.ref b] below meth c H locs cells slots (lw_Z below #[Value.ref b] s) (F0 m 1811 ls [.int t3, .int t2, .int t1, .ref (L 109 0)]) := by
            have hL1851 : ∀ (L : ly_T) (σ : st_T) (x4 : Int32) (H : Heap) (locs : List Loc) (cells slots : Nat) (ls : Array Slot), lext L0 σ0 L σ → bk σ0 σ cells slots → (cells ≤ 1200384 ∧ slots ≤ 5487786) → wv g L σ s H locs → lv_has ls 7 [(0, .ref b), (1, .ref (L 1 0)), (2, .ref (L 109 0)), (3, .ref (L 100 0)), (4, .int x4)] → (m_L_law_L1851 N xs (m_L_law_L3445 N xs (m_L_law_L23 N xs n23))) σ x4 = some (r_, σ_) → W p l e (room_1) s m #[Value.ref b] below meth c H locs cells slots (lw_Z below #[Value.ref b] s) (F0 m 1851 ls []) := by
              intro L σ x4 H locs cells slots ls hx0 hcs hrm hW hl hs
              unfold m_L_law_L1851 at hs
              refine lv_goto (tgt := 3445) hx hb dL_law_1851 (by decide) ?_
              exact hL3445 L σ x4 _ _ _ _ ls hx0 hcs hrm hW (lv_sub hl [0, 1, 2, 3, 4] rfl) hs
            have hL1845 : ∀ (L : ly_T) (σ : st_T) (x4 : Int32) (t0 : Int64) (t1 : Int64) (H : Heap) (locs : List Loc) (cells slots : Nat) (ls : Array Slot), lext L0 σ0 L σ → bk σ0 σ cells slots → (cells ≤ 1200384 ∧ slots ≤ 5487786) → wv g L σ s H locs → lv_has ls 7 [(0, .ref b), (1, .ref (L 1 0)), (2, .ref (L 109 0)), (3, .ref (L 100 0)), (4, .int x4)] → (m_L_law_L1845 N xs (m_L_law_L1851 N xs (m_L_law_L3445 N xs (m_L_law_L23 N xs n23)))) σ x4 t0 t1 = some (r_, σ_) → W p l e (room_1) s m #[Value.ref b] below meth c H locs cells slots (lw_Z below #[Value.ref b] s) (F0 m 1845 ls [.long t1, .long t0]) := by
              intro L σ x4 t0 t1 H locs cells slots ls hx0 hcs hrm hW hl hs
              unfold m_L_law_L1845 at hs
              refine W.lcmp hx hb dL_law_1845 ?_
              refine lv_if_eq (tgt := 1851) hx hb dL_law_1846 (by decide) (fun hc508 => ?_) (fun hc508 => ?_)
              · have hs := ww_T hs hc508
                exact hL1851 L σ x4 _ _ _ _ ls hx0 hcs hrm hW (lv_sub hl [0, 1, 2, 3, 4] rfl) hs
              · have hs := ww_F hs hc508
                refine lv_iconst (v := 0) hx hb dL_law_1849 (by decide) ?_
                have hs := ww_S hs
                exact wl_ret hx hb hr hlocks hW hsz hrm (congrArg Prod.fst hs) hr1 dL_law_1850
            intro L σ x4 x5 t1 t2 t3 H locs cells slots ls hx0 hcs hrm hW hl hs
            unfold m_L_law_L1811 at hs
            obtain ⟨v511, σ512, hc509, hs⟩ := ww_bn2 hs
            obtain ⟨hkp, hs⟩ := ww_pif hs
            obtain ⟨hx0, hcs⟩ := lx_s hx0 hcs hkp
            refine ww_ci (va_runV (As := [.int t1, .int t2, .int t3]) (rest := []) ⟨hx, hb, hml, hown, hts⟩ (c_X10_away g hgm l L σ t1 t2 t3 _ _ hc509) (cwV 3 hts (lw_V q2327 q2328 q2329 q123 q2330) rfl rfl rfl hd_X10_away ⟨(Nat.le_of_ble_eq_true rfl), (Nat.le_of_ble_eq_true rfl)⟩) (ww_preV hW (pr_st (hW.rd hgm) (Nat.le_of_ble_eq_true rfl)) (obv_0 rfl) rfl) rfl rfl hl.1 rfl (lv_room (Nat.le_of_ble_eq_true rfl)) dL_law_1811 hrm) hW (fun H locs hW => ?_)
            refine lv_istore (lv' := [(6, .int v511), (0, .ref b), (1, .ref (L 1 0)), (2, .ref (L 109 0)), (3, .ref (L 100 0)), (4, .int x4), (5, .int x5)]) hx hb dL_law_1814 hl (by decide) rfl (fun ls hl => ?_)
            refine lv_aload_n hx hb dL_law_1816 rfl (lv_at hl 3 rfl) ?_
            obtain ⟨v515, hc513, hs⟩ := ww_bnd hs
            refine ww_ci (va_runV (As := []) (rest := []) ⟨hx, hb, hml, hown, hts⟩ (c_X10_thrown g hgm l L σ512  _ hc513) (cwV 0 hts (lw_V q1671 q1672 q1673 q123 q1674) rfl rfl rfl hd_X10_thrown ⟨(Nat.le_of_ble_eq_true rfl), (Nat.le_of_ble_eq_true rfl)⟩) (ww_preV hW (pr_st (hW.rd hgm) (Nat.le_of_ble_eq_true rfl)) (obv_0 rfl) rfl) rfl rfl hl.1 rfl (lv_room (Nat.le_of_ble_eq_true rfl)) dL_law_1817 hrm) hW (fun H locs hW => ?_)
            refine lv_iload hx hb dL_law_1820 (lv_at hl 6 rfl) ?_
            refine lv_icmp_eq (tgt := 1827) hx hb dL_law_1822 (by decide) (fun hc516 => ?_) (fun hc516 => ?_)
            · have hs := ww_T hs hc516
              refine lv_iload hx hb dL_law_1827 (lv_at hl 6 rfl) ?_
              refine lv_if_ne (tgt := 1851) hx hb dL_law_1829 (by decide) (fun hc517 => ?_) (fun hc517 => ?_)
              · have hs := ww_F hs hc517
                exact hL1851 L σ512 x4 _ _ _ _ ls hx0 hcs hrm hW (lv_sub hl [1, 2, 3, 4, 5] rfl) hs
              · have hs := ww_T hs hc517
                refine lv_aload_n hx hb dL_law_1832 rfl (lv_at hl 4 rfl) ?_
                refine lv_iconst (v := 0) hx hb dL_law_1833 (by decide) ?_
                obtain ⟨hc518, hs⟩ := ww_chk hs
                refine ww_lald hx hb hW (pr_dy hc518 rfl rfl) (j := (0 : Int32)) (vin_lit rfl) dL_law_1834 ?_
                refine lv_iload hx hb dL_law_1835 (lv_at hl 0 rfl) ?_
                refine lv_if_eq (tgt := 1844) hx hb dL_law_1837 (by decide) (fun hc519 => ?_) (fun hc519 => ?_)
                · have hs := ww_T hs hc519
                  refine lv_lconst (v := 0) hx hb dL_law_1844 (by decide) ?_
                  exact hL1845 L σ512 x4 (gO_ σ512) (0 : Int64) _ _ _ _ ls hx0 hcs hrm hW (lv_sub hl [1, 2, 3, 4, 5] rfl) hs
                · have hs := ww_F hs hc519
                  refine lv_lconst (v := 1) hx hb dL_law_1840 (by decide) ?_
                  refine lv_goto (tgt := 1845) hx hb dL_law_1841 (by decide) ?_
                  exact hL1845 L σ512 x4 (gO_ σ512) (1 : Int64) _ _ _ _ ls hx0 hcs hrm hW (lv_sub hl [1, 2, 3, 4, 5] rfl) hs
            · have hs := ww_F hs hc516
              refine lv_iconst (v := 0) hx hb dL_law_1825 (by decide) ?_
              have hs := ww_S hs
              exact wl_ret hx hb hr hlocks hW hsz hrm (congrArg Prod.fst hs) hr1 dL_law_1826
          intro L σ x4 t1 t2 t3 H locs cells slots ls hx0 hcs hrm hW hl hs
          unfold m_L_law_L1778 at hs
          refine lv_aload_n hx hb dL_law_1778 rfl (lv_at hl 3 rfl) ?_
          obtain ⟨v522, σ523, hc520, hs⟩ := ww_bn2 hs
          have hp524 : pr σ 1 0 := (pr_st (hW.rd hgm) (Nat.le_of_ble_eq_true rfl))
          have hp525 : pr σ 109 0 := (pr_st (hW.rd hgm) (Nat.le_of_ble_eq_true rfl))
          obtain ⟨hc526, hs⟩ := ww_chk hs
          have hp527 : pr σ 100 0 := (pr_dy hc526 rfl rfl)
          obtain ⟨hc528, hs⟩ := ww_chk hs
          obtain ⟨hs, hck⟩ := ww_ck2 hs
          have hrm1 := le2_ (hcs.roomC hc528 hck) hRc
          refine wa_ci (vx_runSW (As := [.ref (L 1 0), .int t1, .int t2, .int t3, .ref (L 100 0)]) (rest := []) ⟨hx, hb, hml, hown, hts⟩ (c_X0_away g hgm l L σ t1 t2 t3 hst _ _ hc520) (vx_cwSW 5 hts (lw_SW q1288 q1289 q110 q1290) rfl rfl rfl hd_X0_away.2 ⟨(Nat.le_of_ble_eq_true rfl), (Nat.le_of_ble_eq_true rfl)⟩) (ww_preS hW) rfl rfl hl.1 rfl (lv_room (Nat.le_of_ble_eq_true rfl)) dL_law_1779 hrm1) hW (fun H locs L hx1 hW => ?_)
          have hc529 : 0 < gN_ σ523 100 := Nat.lt_of_lt_of_le hc526 (hx1.2.1 100)
          have hcs := hcs.call hc528
          have hrm := hrm1
          have hl : lv_has ls 7 [(0, .ref b), (1, .ref (L 1 0)), (2, .ref (L 109 0)), (3, .ref (L 100 0)), (4, .int x4)] := by rw [hx1.at hp524 (by decide), hx1.at hp525 (by decide), hx1.at hp527 (by decide)]; exact hl
          have hx0 := hx0.trans hx1
          refine lv_istore (lv' := [(5, .int v522), (0, .ref b), (1, .ref (L 1 0)), (2, .ref (L 109 0)), (3, .ref (L 100 0)), (4, .int x4)]) hx hb dL_law_1782 hl (by decide) rfl (fun ls hl => ?_)
          refine lv_aload_n hx hb dL_law_1784 rfl (lv_at hl 3 rfl) ?_
          refine lv_aload_n hx hb dL_law_1785 rfl (lv_at hl 1 rfl) ?_
          refine lv_iload hx hb dL_law_1786 (lv_at hl 5 rfl) ?_
          refine lv_iconst (v := 1) hx hb dL_law_1788 (by decide) ?_
          refine lv_iadd hx hb dL_law_1789 ?_
          obtain ⟨hc530, hs⟩ := ww_chk hs
          refine va_sld hx hb hX hbl hbA hW.2.2.1 hc530 dL_law_1790 ?_
          refine lv_aload_n hx hb dL_law_1791 rfl (lv_at hl 1 rfl) ?_
          refine lv_iload hx hb dL_law_1792 (lv_at hl 5 rfl) ?_
          refine lv_iconst (v := 2) hx hb dL_law_1794 (by decide) ?_
          refine lv_iadd hx hb dL_law_1795 ?_
          obtain ⟨hc531, hs⟩ := ww_chk hs
          refine va_sld hx hb hX hbl hbA hW.2.2.1 hc531 dL_law_1796 ?_
          refine lv_aload_n hx hb dL_law_1797 rfl (lv_at hl 1 rfl) ?_
          refine lv_iload hx hb dL_law_1798 (lv_at hl 5 rfl) ?_
          refine lv_iconst (v := 3) hx hb dL_law_1800 (by decide) ?_
          refine lv_iadd hx hb dL_law_1801 ?_
          obtain ⟨hc532, hs⟩ := ww_chk hs
          refine va_sld hx hb hX hbl hbA hW.2.2.1 hc532 dL_law_1802 ?_
          refine lv_if_eq (tgt := 1810) hx hb dL_law_1803 (by decide) (fun hc533 => ?_) (fun hc533 => ?_)
          · have hs := ww_T hs hc533
            refine lv_iconst (v := 0) hx hb dL_law_1810 (by decide) ?_
            exact hL1811 L σ523 x4 v522 (xs (x4 + (1 : Int32)).toNatClampNeg) (xs (x4 + (2 : Int32)).toNatClampNeg) (0 : Int32) _ _ _ _ ls hx0 hcs hrm hW (lv_sub hl [1, 2, 3, 4, 5, 0] rfl) hs
          · have hs := ww_F hs hc533
            refine lv_iconst (v := 1) hx hb dL_law_1806 (by decide) ?_
            refine lv_goto (tgt := 1811) hx hb dL_law_1807 (by decide) ?_
            exact hL1811 L σ523 x4 v522 (xs (x4 + (1 : Int32)).toNatClampNeg) (xs (x4 + (2 : Int32)).toNatClampNeg) (1 : Int32) _ _ _ _ ls hx0 hcs hrm hW (lv_sub hl [1, 2, 3, 4, 5, 0] rfl) hs
        intro L σ x4 H locs cells slots ls hx0 hcs hrm hW hl hs
        unfold m_L_law_L1751 at hs
        refine lv_aload_n hx hb dL_law_1751 rfl (lv_at hl 1 rfl) ?_
        refine lv_aload_n hx hb dL_law_1752 rfl (lv_at hl 0 rfl) ?_
        refine lv_iload hx hb dL_law_1753 (lv_at hl 4 rfl) ?_
        refine lv_iconst (v := 1) hx hb dL_law_1755 (by decide) ?_
        refine lv_iadd hx hb dL_law_1756 ?_
        obtain ⟨hc534, hs⟩ := ww_chk hs
        refine va_sld hx hb hX hbl hbA hW.2.2.1 hc534 dL_law_1757 ?_
        refine lv_aload_n hx hb dL_law_1758 rfl (lv_at hl 0 rfl) ?_
        refine lv_iload hx hb dL_law_1759 (lv_at hl 4 rfl) ?_
        refine lv_iconst (v := 2) hx hb dL_law_1761 (by decide) ?_
        refine lv_iadd hx hb dL_law_1762 ?_
        obtain ⟨hc535, hs⟩ := ww_chk hs
        refine va_sld hx hb hX hbl hbA hW.2.2.1 hc535 dL_law_1763 ?_
        refine lv_aload_n hx hb dL_law_1764 rfl (lv_at hl 0 rfl) ?_
        refine lv_iload hx hb dL_law_1765 (lv_at hl 4 rfl) ?_
        refine lv_iconst (v := 3) hx hb dL_law_1767 (by decide) ?_
        refine lv_iadd hx hb dL_law_1768 ?_
        obtain ⟨hc536, hs⟩ := ww_chk hs
        refine va_sld hx hb hX hbl hbA hW.2.2.1 hc536 dL_law_1769 ?_
        refine lv_if_eq (tgt := 1777) hx hb dL_law_1770 (by decide) (fun hc537 => ?_) (fun hc537 => ?_)
        · have hs := ww_T hs hc537
          refine lv_iconst (v := 0) hx hb dL_law_1777 (by decide) ?_
          exact hL1778 L σ x4 (xs (x4 + (1 : Int32)).toNatClampNeg) (xs (x4 + (2 : Int32)).toNatClampNeg) (0 : Int32) _ _ _ _ ls hx0 hcs hrm hW (lv_sub hl [0, 1, 2, 3, 4] rfl) hs
        · have hs := ww_F hs hc537
          refine lv_iconst (v := 1) hx hb dL_law_1773 (by decide) ?_
          refine lv_goto (tgt := 1778) hx hb dL_law_1774 (by decide) ?_
          exact hL1778 L σ x4 (xs (x4 + (1 : Int32)).toNatClampNeg) (xs (x4 + (2 : Int32)).toNatClampNeg) (1 : Int32) _ _ _ _ ls hx0 hcs hrm hW (lv_sub hl [0, 1, 2, 3, 4] rfl) hs
      have hL1667 : ∀ (L : ly_T) (σ : st_T) (x4 : Int32) (H : Heap) (locs : List Loc) (cells slots : Nat) (ls : Array Slot), lext L0 σ0 L σ → bk σ0 σ cells slots → (cells ≤ 1200384 ∧ slots ≤ 5487786) → wv g L σ s H locs → lv_has ls 7 [(0, .ref b), (1, .ref (L 1 0)), (2, .ref (L 109 0)), (3, .ref (L 100 0)), (4, .int x4)] → (m_L_law_L1667 N xs (m_L_law_L3445 N xs (m_L_law_L23 N xs n23))) σ x4 = some (r_, σ_) → W p l e (room_1) s m #[Value.ref b] below meth c H locs cells slots (lw_Z below #[Value.ref b] s) (F0 m 1667 ls []) := by
        have hL1688 : ∀ (L : ly_T) (σ : st_T) (x4 : Int32) (t1 : Int32) (t2 : Int32) (H : Heap) (locs : List Loc) (cells slots : Nat) (ls : Array Slot), lext L0 σ0 L σ → bk σ0 σ cells slots → (cells ≤ 1200384 ∧ slots ≤ 5487786) → wv g L σ s H locs → lv_has ls 7 [(0, .ref b), (1, .ref (L 1 0)), (2, .ref (L 109 0)), (3, .ref (L 100 0)), (4, .int x4)] → (m_L_law_L1688 N xs (m_L_law_L3445 N xs (m_L_law_L23 N xs n23))) σ x4 t1 t2 = some (r_, σ_) → W p l e (room_1) s m #[Value.ref b] below meth c H locs cells slots (lw_Z below #[Value.ref b] s) (F0 m 1688 ls [.int t2, .int t1, .ref (L 1 0)]) := by
          have hL1715 : ∀ (L : ly_T) (σ : st_T) (x4 : Int32) (x5 : Int32) (t1 : Int32) (t2 : Int32) (H : Heap) (locs : List Loc) (cells slots : Nat) (ls : Array Slot), lext L0 σ0 L σ → bk σ0 σ cells slots → (cells ≤ 1200384 ∧ slots ≤ 5487786) → wv g L σ s H locs → lv_has ls 7 [(0, .ref b), (1, .ref (L 1 0)), (2, .ref (L 109 0)), (3, .ref (L 100 0)), (4, .int x4), (5, .int x5)] → (m_L_law_L1715 N xs (m_L_law_L3445 N xs (m_L_law_L23 N xs n23))) σ x4 x5 t1 t2 = some (r_, σ_) → W p l e (room_1) s m #[Value.ref b] below meth c H locs cells slots (lw_Z below #[Value.ref b] s) (F0 m 1715 ls [.int t2, .int t1, .ref (L 109 0)]) := by
            have hL1748 : ∀ (L : ly_T) (σ : st_T) (x4 : Int32) (H : Heap) (locs : List Loc) (cells slots : Nat) (ls : Array Slot), lext L0 σ0 L σ → bk σ0 σ cells slots → (cells ≤ 1200384 ∧ slots ≤ 5487786) → wv g L σ s H locs → lv_has ls 7 [(0, .ref b), (1, .ref (L 1 0)), (2, .ref (L 109 0)), (3, .ref (L 100 0)), (4, .int x4)] → (m_L_law_L1748 N xs (m_L_law_L3445 N xs (m_L_law_L23 N xs n23))) σ x4 = some (r_, σ_) → W p l e (room_1) s m #[Value.ref b] below meth c H locs cells slots (lw_Z below #[Value.ref b] s) (F0 m 1748 ls []) := by
              intro L σ x4 H locs cells slots ls hx0 hcs hrm hW hl hs
              unfold m_L_law_L1748 at hs
              refine lv_goto (tgt := 3445) hx hb dL_law_1748 (by decide) ?_
              exact hL3445 L σ x4 _ _ _ _ ls hx0 hcs hrm hW (lv_sub hl [0, 1, 2, 3, 4] rfl) hs
            intro L σ x4 x5 t1 t2 H locs cells slots ls hx0 hcs hrm hW hl hs
            unfold m_L_law_L1715 at hs
            obtain ⟨v540, σ541, hc538, hs⟩ := ww_bn2 hs
            obtain ⟨hkp, hs⟩ := ww_pif hs
            obtain ⟨hx0, hcs⟩ := lx_s hx0 hcs hkp
            refine ww_ci (va_runV (As := [.int t1, .int t2]) (rest := []) ⟨hx, hb, hml, hown, hts⟩ (c_X10_join g hgm l L σ t1 t2 _ _ hc538) (cwV 2 hts (lw_V q2320 q2321 q2322 q123 q2323) rfl rfl rfl hd_X10_join ⟨(Nat.le_of_ble_eq_true rfl), (Nat.le_of_ble_eq_true rfl)⟩) (ww_preV hW (pr_st (hW.rd hgm) (Nat.le_of_ble_eq_true rfl)) (obv_0 rfl) rfl) rfl rfl hl.1 rfl (lv_room (Nat.le_of_ble_eq_true rfl)) dL_law_1715 hrm) hW (fun H locs hW => ?_)
            refine lv_istore (lv' := [(6, .int v540), (0, .ref b), (1, .ref (L 1 0)), (2, .ref (L 109 0)), (3, .ref (L 100 0)), (4, .int x4), (5, .int x5)]) hx hb dL_law_1718 hl (by decide) rfl (fun ls hl => ?_)
            refine lv_aload_n hx hb dL_law_1720 rfl (lv_at hl 3 rfl) ?_
            obtain ⟨v544, hc542, hs⟩ := ww_bnd hs
            refine ww_ci (va_runV (As := []) (rest := []) ⟨hx, hb, hml, hown, hts⟩ (c_X10_thrown g hgm l L σ541  _ hc542) (cwV 0 hts (lw_V q1671 q1672 q1673 q123 q1674) rfl rfl rfl hd_X10_thrown ⟨(Nat.le_of_ble_eq_true rfl), (Nat.le_of_ble_eq_true rfl)⟩) (ww_preV hW (pr_st (hW.rd hgm) (Nat.le_of_ble_eq_true rfl)) (obv_0 rfl) rfl) rfl rfl hl.1 rfl (lv_room (Nat.le_of_ble_eq_true rfl)) dL_law_1721 hrm) hW (fun H locs hW => ?_)
            refine lv_iload hx hb dL_law_1724 (lv_at hl 6 rfl) ?_
            refine lv_icmp_eq (tgt := 1731) hx hb dL_law_1726 (by decide) (fun hc545 => ?_) (fun hc545 => ?_)
            · have hs := ww_T hs hc545
              refine lv_iload hx hb dL_law_1731 (lv_at hl 6 rfl) ?_
              refine lv_if_ne (tgt := 1748) hx hb dL_law_1733 (by decide) (fun hc546 => ?_) (fun hc546 => ?_)
              · have hs := ww_F hs hc546
                exact hL1748 L σ541 x4 _ _ _ _ ls hx0 hcs hrm hW (lv_sub hl [1, 2, 3, 4, 5] rfl) hs
              · have hs := ww_T hs hc546
                refine lv_aload_n hx hb dL_law_1736 rfl (lv_at hl 4 rfl) ?_
                refine lv_iconst (v := 0) hx hb dL_law_1737 (by decide) ?_
                obtain ⟨hc547, hs⟩ := ww_chk hs
                refine ww_lald hx hb hW (pr_dy hc547 rfl rfl) (j := (0 : Int32)) (vin_lit rfl) dL_law_1738 ?_
                refine lv_iload hx hb dL_law_1739 (lv_at hl 0 rfl) ?_
                refine lv_i2l hx hb dL_law_1741 rfl ?_
                refine W.lcmp hx hb dL_law_1742 ?_
                refine lv_if_eq (tgt := 1748) hx hb dL_law_1743 (by decide) (fun hc548 => ?_) (fun hc548 => ?_)
                · have hs := ww_T hs hc548
                  exact hL1748 L σ541 x4 _ _ _ _ ls hx0 hcs hrm hW (lv_sub hl [1, 2, 3, 4, 5] rfl) hs
                · have hs := ww_F hs hc548
                  refine lv_iconst (v := 0) hx hb dL_law_1746 (by decide) ?_
                  have hs := ww_S hs
                  exact wl_ret hx hb hr hlocks hW hsz hrm (congrArg Prod.fst hs) hr1 dL_law_1747
            · have hs := ww_F hs hc545
              refine lv_iconst (v := 0) hx hb dL_law_1729 (by decide) ?_
              have hs := ww_S hs
              exact wl_ret hx hb hr hlocks hW hsz hrm (congrArg Prod.fst hs) hr1 dL_law_1730
          intro L σ x4 t1 t2 H locs cells slots ls hx0 hcs hrm hW hl hs
          unfold m_L_law_L1688 at hs
          refine lv_aload_n hx hb dL_law_1688 rfl (lv_at hl 3 rfl) ?_
          obtain ⟨v551, σ552, hc549, hs⟩ := ww_bn2 hs
          have hp553 : pr σ 1 0 := (pr_st (hW.rd hgm) (Nat.le_of_ble_eq_true rfl))
          have hp554 : pr σ 109 0 := (pr_st (hW.rd hgm) (Nat.le_of_ble_eq_true rfl))
          obtain ⟨hc555, hs⟩ := ww_chk hs
          have hp556 : pr σ 100 0 := (pr_dy hc555 rfl rfl)
          obtain ⟨hc557, hs⟩ := ww_chk hs
          obtain ⟨hs, hck⟩ := ww_ck2 hs
          have hrm1 := le2_ (hcs.roomC hc557 hck) hRc
          refine wa_ci (vx_runSW (As := [.ref (L 1 0), .int t1, .int t2, .ref (L 100 0)]) (rest := []) ⟨hx, hb, hml, hown, hts⟩ (c_X0_join g hgm l L σ t1 t2 hst _ _ hc549) (vx_cwSW 4 hts (lw_SW q1281 q1282 q110 q1283) rfl rfl rfl hd_X0_join.2 ⟨(Nat.le_of_ble_eq_true rfl), (Nat.le_of_ble_eq_true rfl)⟩) (ww_preS hW) rfl rfl hl.1 rfl (lv_room (Nat.le_of_ble_eq_true rfl)) dL_law_1689 hrm1) hW (fun H locs L hx1 hW => ?_)
          have hc558 : 0 < gN_ σ552 100 := Nat.lt_of_lt_of_le hc555 (hx1.2.1 100)
          have hcs := hcs.call hc557
          have hrm := hrm1
          have hl : lv_has ls 7 [(0, .ref b), (1, .ref (L 1 0)), (2, .ref (L 109 0)), (3, .ref (L 100 0)), (4, .int x4)] := by rw [hx1.at hp553 (by decide), hx1.at hp554 (by decide), hx1.at hp556 (by decide)]; exact hl
          have hx0 := hx0.trans hx1
          refine lv_istore (lv' := [(5, .int v551), (0, .ref b), (1, .ref (L 1 0)), (2, .ref (L 109 0)), (3, .ref (L 100 0)), (4, .int x4)]) hx hb dL_law_1692 hl (by decide) rfl (fun ls hl => ?_)
          refine lv_aload_n hx hb dL_law_1694 rfl (lv_at hl 3 rfl) ?_
          refine lv_aload_n hx hb dL_law_1695 rfl (lv_at hl 1 rfl) ?_
          refine lv_iload hx hb dL_law_1696 (lv_at hl 5 rfl) ?_
          refine lv_iconst (v := 1) hx hb dL_law_1698 (by decide) ?_
          refine lv_iadd hx hb dL_law_1699 ?_
          obtain ⟨hc559, hs⟩ := ww_chk hs
          refine va_sld hx hb hX hbl hbA hW.2.2.1 hc559 dL_law_1700 ?_
          refine lv_aload_n hx hb dL_law_1701 rfl (lv_at hl 1 rfl) ?_
          refine lv_iload hx hb dL_law_1702 (lv_at hl 5 rfl) ?_
          refine lv_iconst (v := 2) hx hb dL_law_1704 (by decide) ?_
          refine lv_iadd hx hb dL_law_1705 ?_
          obtain ⟨hc560, hs⟩ := ww_chk hs
          refine va_sld hx hb hX hbl hbA hW.2.2.1 hc560 dL_law_1706 ?_
          refine lv_if_eq (tgt := 1714) hx hb dL_law_1707 (by decide) (fun hc561 => ?_) (fun hc561 => ?_)
          · have hs := ww_T hs hc561
            refine lv_iconst (v := 0) hx hb dL_law_1714 (by decide) ?_
            exact hL1715 L σ552 x4 v551 (xs (x4 + (1 : Int32)).toNatClampNeg) (0 : Int32) _ _ _ _ ls hx0 hcs hrm hW (lv_sub hl [1, 2, 3, 4, 5, 0] rfl) hs
          · have hs := ww_F hs hc561
            refine lv_iconst (v := 1) hx hb dL_law_1710 (by decide) ?_
            refine lv_goto (tgt := 1715) hx hb dL_law_1711 (by decide) ?_
            exact hL1715 L σ552 x4 v551 (xs (x4 + (1 : Int32)).toNatClampNeg) (1 : Int32) _ _ _ _ ls hx0 hcs hrm hW (lv_sub hl [1, 2, 3, 4, 5, 0] rfl) hs
        intro L σ x4 H locs cells slots ls hx0 hcs hrm hW hl hs
        unfold m_L_law_L1667 at hs
        refine lv_aload_n hx hb dL_law_1667 rfl (lv_at hl 1 rfl) ?_
        refine lv_aload_n hx hb dL_law_1668 rfl (lv_at hl 0 rfl) ?_
        refine lv_iload hx hb dL_law_1669 (lv_at hl 4 rfl) ?_
        refine lv_iconst (v := 1) hx hb dL_law_1671 (by decide) ?_
        refine lv_iadd hx hb dL_law_1672 ?_
        obtain ⟨hc562, hs⟩ := ww_chk hs
        refine va_sld hx hb hX hbl hbA hW.2.2.1 hc562 dL_law_1673 ?_
        refine lv_aload_n hx hb dL_law_1674 rfl (lv_at hl 0 rfl) ?_
        refine lv_iload hx hb dL_law_1675 (lv_at hl 4 rfl) ?_
        refine lv_iconst (v := 2) hx hb dL_law_1677 (by decide) ?_
        refine lv_iadd hx hb dL_law_1678 ?_
        obtain ⟨hc563, hs⟩ := ww_chk hs
        refine va_sld hx hb hX hbl hbA hW.2.2.1 hc563 dL_law_1679 ?_
        refine lv_if_eq (tgt := 1687) hx hb dL_law_1680 (by decide) (fun hc564 => ?_) (fun hc564 => ?_)
        · have hs := ww_T hs hc564
          refine lv_iconst (v := 0) hx hb dL_law_1687 (by decide) ?_
          exact hL1688 L σ x4 (xs (x4 + (1 : Int32)).toNatClampNeg) (0 : Int32) _ _ _ _ ls hx0 hcs hrm hW (lv_sub hl [0, 1, 2, 3, 4] rfl) hs
        · have hs := ww_F hs hc564
          refine lv_iconst (v := 1) hx hb dL_law_1683 (by decide) ?_
          refine lv_goto (tgt := 1688) hx hb dL_law_1684 (by decide) ?_
          exact hL1688 L σ x4 (xs (x4 + (1 : Int32)).toNatClampNeg) (1 : Int32) _ _ _ _ ls hx0 hcs hrm hW (lv_sub hl [0, 1, 2, 3, 4] rfl) hs
      have hL1599 : ∀ (L : ly_T) (σ : st_T) (x4 : Int32) (H : Heap) (locs : List Loc) (cells slots : Nat) (ls : Array Slot), lext L0 σ0 L σ → bk σ0 σ cells slots → (cells ≤ 1200384 ∧ slots ≤ 5487786) → wv g L σ s H locs → lv_has ls 7 [(0, .ref b), (1, .ref (L 1 0)), (2, .ref (L 109 0)), (3, .ref (L 100 0)), (4, .int x4)] → (m_L_law_L1599 N xs (m_L_law_L3445 N xs (m_L_law_L23 N xs n23))) σ x4 = some (r_, σ_) → W p l e (room_1) s m #[Value.ref b] below meth c H locs cells slots (lw_Z below #[Value.ref b] s) (F0 m 1599 ls []) := by
        have hL1664 : ∀ (L : ly_T) (σ : st_T) (x4 : Int32) (H : Heap) (locs : List Loc) (cells slots : Nat) (ls : Array Slot), lext L0 σ0 L σ → bk σ0 σ cells slots → (cells ≤ 1200384 ∧ slots ≤ 5487786) → wv g L σ s H locs → lv_has ls 7 [(0, .ref b), (1, .ref (L 1 0)), (2, .ref (L 109 0)), (3, .ref (L 100 0)), (4, .int x4)] → (m_L_law_L1664 N xs (m_L_law_L3445 N xs (m_L_law_L23 N xs n23))) σ x4 = some (r_, σ_) → W p l e (room_1) s m #[Value.ref b] below meth c H locs cells slots (lw_Z below #[Value.ref b] s) (F0 m 1664 ls []) := by
          intro L σ x4 H locs cells slots ls hx0 hcs hrm hW hl hs
          unfold m_L_law_L1664 at hs
          refine lv_goto (tgt := 3445) hx hb dL_law_1664 (by decide) ?_
          exact hL3445 L σ x4 _ _ _ _ ls hx0 hcs hrm hW (lv_sub hl [0, 1, 2, 3, 4] rfl) hs
        intro L σ x4 H locs cells slots ls hx0 hcs hrm hW hl hs
        unfold m_L_law_L1599 at hs
        refine lv_aload_n hx hb dL_law_1599 rfl (lv_at hl 1 rfl) ?_
        refine lv_aload_n hx hb dL_law_1600 rfl (lv_at hl 0 rfl) ?_
        refine lv_iload hx hb dL_law_1601 (lv_at hl 4 rfl) ?_
        refine lv_iconst (v := 1) hx hb dL_law_1603 (by decide) ?_
        refine lv_iadd hx hb dL_law_1604 ?_
        obtain ⟨hc565, hs⟩ := ww_chk hs
        refine va_sld hx hb hX hbl hbA hW.2.2.1 hc565 dL_law_1605 ?_
        refine lv_aload_n hx hb dL_law_1606 rfl (lv_at hl 0 rfl) ?_
        refine lv_iload hx hb dL_law_1607 (lv_at hl 4 rfl) ?_
        refine lv_iconst (v := 2) hx hb dL_law_1609 (by decide) ?_
        refine lv_iadd hx hb dL_law_1610 ?_
        obtain ⟨hc566, hs⟩ := ww_chk hs
        refine va_sld hx hb hX hbl hbA hW.2.2.1 hc566 dL_law_1611 ?_
        refine lv_aload_n hx hb dL_law_1612 rfl (lv_at hl 3 rfl) ?_
        obtain ⟨v569, σ570, hc567, hs⟩ := ww_bn2 hs
        have hp571 : pr σ 1 0 := (pr_st (hW.rd hgm) (Nat.le_of_ble_eq_true rfl))
        have hp572 : pr σ 109 0 := (pr_st (hW.rd hgm) (Nat.le_of_ble_eq_true rfl))
        obtain ⟨hc573, hs⟩ := ww_chk hs
        have hp574 : pr σ 100 0 := (pr_dy hc573 rfl rfl)
        obtain ⟨hc575, hs⟩ := ww_chk hs
        obtain ⟨hs, hck⟩ := ww_ck2 hs
        have hrm1 := le2_ (hcs.roomC hc575 hck) hRc
        refine wa_ci (vx_runSW (As := [.ref (L 1 0), .int (xs (x4 + (1 : Int32)).toNatClampNeg), .int (xs (x4 + (2 : Int32)).toNatClampNeg), .ref (L 100 0)]) (rest := []) ⟨hx, hb, hml, hown, hts⟩ (c_X0_post g hgm l L σ (xs (x4 + (1 : Int32)).toNatClampNeg) (xs (x4 + (2 : Int32)).toNatClampNeg) hst _ _ hc567) (vx_cwSW 4 hts (lw_SW q1268 q1269 q110 q1270) rfl rfl rfl hd_X0_post.2 ⟨(Nat.le_of_ble_eq_true rfl), (Nat.le_of_ble_eq_true rfl)⟩) (ww_preS hW) rfl rfl hl.1 rfl (lv_room (Nat.le_of_ble_eq_true rfl)) dL_law_1613 hrm1) hW (fun H locs L hx1 hW => ?_)
        have hc576 : 0 < gN_ σ570 100 := Nat.lt_of_lt_of_le hc573 (hx1.2.1 100)
        have hcs := hcs.call hc575
        have hrm := hrm1
        have hl : lv_has ls 7 [(0, .ref b), (1, .ref (L 1 0)), (2, .ref (L 109 0)), (3, .ref (L 100 0)), (4, .int x4)] := by rw [hx1.at hp571 (by decide), hx1.at hp572 (by decide), hx1.at hp574 (by decide)]; exact hl
        have hx0 := hx0.trans hx1
        refine lv_istore (lv' := [(5, .int v569), (0, .ref b), (1, .ref (L 1 0)), (2, .ref (L 109 0)), (3, .ref (L 100 0)), (4, .int x4)]) hx hb dL_law_1616 hl (by decide) rfl (fun ls hl => ?_)
        refine lv_aload_n hx hb dL_law_1618 rfl (lv_at hl 3 rfl) ?_
        refine lv_aload_n hx hb dL_law_1619 rfl (lv_at hl 1 rfl) ?_
        refine lv_iload hx hb dL_law_1620 (lv_at hl 5 rfl) ?_
        refine lv_iconst (v := 1) hx hb dL_law_1622 (by decide) ?_
        refine lv_iadd hx hb dL_law_1623 ?_
        refine va_sld hx hb hX hbl hbA hW.2.2.1 hc565 dL_law_1624 ?_
        refine lv_aload_n hx hb dL_law_1625 rfl (lv_at hl 1 rfl) ?_
        refine lv_iload hx hb dL_law_1626 (lv_at hl 5 rfl) ?_
        refine lv_iconst (v := 2) hx hb dL_law_1628 (by decide) ?_
        refine lv_iadd hx hb dL_law_1629 ?_
        refine va_sld hx hb hX hbl hbA hW.2.2.1 hc566 dL_law_1630 ?_
        obtain ⟨v579, σ580, hc577, hs⟩ := ww_bn2 hs
        obtain ⟨hkp, hs⟩ := ww_pif hs
        obtain ⟨hx0, hcs⟩ := lx_s hx0 hcs hkp
        refine ww_ci (va_runV (As := [.int (xs (x4 + (1 : Int32)).toNatClampNeg), .int (xs (x4 + (2 : Int32)).toNatClampNeg)]) (rest := []) ⟨hx, hb, hml, hown, hts⟩ (c_X10_post g hgm l L σ570 (xs (x4 + (1 : Int32)).toNatClampNeg) (xs (x4 + (2 : Int32)).toNatClampNeg) _ _ hc577) (cwV 2 hts (lw_V q2312 q2313 q2314 q123 q2315) rfl rfl rfl hd_X10_post ⟨(Nat.le_of_ble_eq_true rfl), (Nat.le_of_ble_eq_true rfl)⟩) (ww_preV hW (pr_st (hW.rd hgm) (Nat.le_of_ble_eq_true rfl)) (obv_0 rfl) rfl) rfl rfl hl.1 rfl (lv_room (Nat.le_of_ble_eq_true rfl)) dL_law_1631 hrm) hW (fun H locs hW => ?_)
        have hc581 : 0 < gN_ σ580 100 := by rw [hkp.1]; exact hc576
        refine lv_istore (lv' := [(6, .int v579), (5, .int v569), (0, .ref b), (1, .ref (L 1 0)), (2, .ref (L 109 0)), (3, .ref (L 100 0)), (4, .int x4)]) hx hb dL_law_1634 hl (by decide) rfl (fun ls hl => ?_)
        refine lv_aload_n hx hb dL_law_1636 rfl (lv_at hl 4 rfl) ?_
        obtain ⟨v584, hc582, hs⟩ := ww_bnd hs
        refine ww_ci (va_runV (As := []) (rest := []) ⟨hx, hb, hml, hown, hts⟩ (c_X10_thrown g hgm l L σ580  _ hc582) (cwV 0 hts (lw_V q1671 q1672 q1673 q123 q1674) rfl rfl rfl hd_X10_thrown ⟨(Nat.le_of_ble_eq_true rfl), (Nat.le_of_ble_eq_true rfl)⟩) (ww_preV hW (pr_st (hW.rd hgm) (Nat.le_of_ble_eq_true rfl)) (obv_0 rfl) rfl) rfl rfl hl.1 rfl (lv_room (Nat.le_of_ble_eq_true rfl)) dL_law_1637 hrm) hW (fun H locs hW => ?_)
        refine lv_iload hx hb dL_law_1640 (lv_at hl 1 rfl) ?_
        refine lv_icmp_eq (tgt := 1647) hx hb dL_law_1642 (by decide) (fun hc585 => ?_) (fun hc585 => ?_)
        · have hs := ww_T hs hc585
          refine lv_iload hx hb dL_law_1647 (lv_at hl 1 rfl) ?_
          refine lv_if_ne (tgt := 1664) hx hb dL_law_1649 (by decide) (fun hc586 => ?_) (fun hc586 => ?_)
          · have hs := ww_F hs hc586
            exact hL1664 L σ580 x4 _ _ _ _ ls hx0 hcs hrm hW (lv_sub hl [2, 3, 4, 5, 6] rfl) hs
          · have hs := ww_T hs hc586
            refine lv_aload_n hx hb dL_law_1652 rfl (lv_at hl 5 rfl) ?_
            refine lv_iconst (v := 0) hx hb dL_law_1653 (by decide) ?_
            refine ww_lald hx hb hW (pr_dy hc581 rfl rfl) (j := (0 : Int32)) (vin_lit rfl) dL_law_1654 ?_
            refine lv_iload hx hb dL_law_1655 (lv_at hl 0 rfl) ?_
            refine lv_i2l hx hb dL_law_1657 rfl ?_
            refine W.lcmp hx hb dL_law_1658 ?_
            refine lv_if_eq (tgt := 1664) hx hb dL_law_1659 (by decide) (fun hc587 => ?_) (fun hc587 => ?_)
            · have hs := ww_T hs hc587
              exact hL1664 L σ580 x4 _ _ _ _ ls hx0 hcs hrm hW (lv_sub hl [2, 3, 4, 5, 6] rfl) hs
            · have hs := ww_F hs hc587
              refine lv_iconst (v := 0) hx hb dL_law_1662 (by decide) ?_
              have hs := ww_S hs
              exact wl_ret hx hb hr hlocks hW hsz hrm (congrArg Prod.fst hs) hr1 dL_law_1663
        · have hs := ww_F hs hc585
          refine lv_iconst (v := 0) hx hb dL_law_1645 (by decide) ?_
          have hs := ww_S hs
          exact wl_ret hx hb hr hlocks hW hsz hrm (congrArg Prod.fst hs) hr1 dL_law_1646
      have hL1543 : ∀ (L : ly_T) (σ : st_T) (x4 : Int32) (H : Heap) (locs : List Loc) (cells slots : Nat) (ls : Array Slot), lext L0 σ0 L σ → bk σ0 σ cells slots → (cells ≤ 1200384 ∧ slots ≤ 5487786) → wv g L σ s H locs → lv_has ls 7 [(0, .ref b), (1, .ref (L 1 0)), (2, .ref (L 109 0)), (3, .ref (L 100 0)), (4, .int x4)] → (m_L_law_L1543 N xs (m_L_law_L3445 N xs (m_L_law_L23 N xs n23))) σ x4 = some (r_, σ_) → W p l e (room_1) s m #[Value.ref b] below meth c H locs cells slots (lw_Z below #[Value.ref b] s) (F0 m 1543 ls []) := by
        have hL1596 : ∀ (L : ly_T) (σ : st_T) (x4 : Int32) (H : Heap) (locs : List Loc) (cells slots : Nat) (ls : Array Slot), lext L0 σ0 L σ → bk σ0 σ cells slots → (cells ≤ 1200384 ∧ slots ≤ 5487786) → wv g L σ s H locs → lv_has ls 7 [(0, .ref b), (1, .ref (L 1 0)), (2, .ref (L 109 0)), (3, .ref (L 100 0)), (4, .int x4)] → (m_L_law_L1596 N xs (m_L_law_L3445 N xs (m_L_law_L23 N xs n23))) σ x4 = some (r_, σ_) → W p l e (room_1) s m #[Value.ref b] below meth c H locs cells slots (lw_Z below #[Value.ref b] s) (F0 m 1596 ls []) := by
          intro L σ x4 H locs cells slots ls hx0 hcs hrm hW hl hs
          unfold m_L_law_L1596 at hs
          refine lv_goto (tgt := 3445) hx hb dL_law_1596 (by decide) ?_
          exact hL3445 L σ x4 _ _ _ _ ls hx0 hcs hrm hW (lv_sub hl [0, 1, 2, 3, 4] rfl) hs
        intro L σ x4 H locs cells slots ls hx0 hcs hrm hW hl hs
        unfold m_L_law_L1543 at hs
        refine lv_aload_n hx hb dL_law_1543 rfl (lv_at hl 1 rfl) ?_
        refine lv_aload_n hx hb dL_law_1544 rfl (lv_at hl 0 rfl) ?_
        refine lv_iload hx hb dL_law_1545 (lv_at hl 4 rfl) ?_
        refine lv_iconst (v := 1) hx hb dL_law_1547 (by decide) ?_
        refine lv_iadd hx hb dL_law_1548 ?_
        obtain ⟨hc588, hs⟩ := ww_chk hs
        refine va_sld hx hb hX hbl hbA hW.2.2.1 hc588 dL_law_1549 ?_
        refine lv_aload_n hx hb dL_law_1550 rfl (lv_at hl 3 rfl) ?_
        obtain ⟨v591, σ592, hc589, hs⟩ := ww_bn2 hs
        have hp593 : pr σ 1 0 := (pr_st (hW.rd hgm) (Nat.le_of_ble_eq_true rfl))
        have hp594 : pr σ 109 0 := (pr_st (hW.rd hgm) (Nat.le_of_ble_eq_true rfl))
        obtain ⟨hc595, hs⟩ := ww_chk hs
        have hp596 : pr σ 100 0 := (pr_dy hc595 rfl rfl)
        obtain ⟨hc597, hs⟩ := ww_chk hs
        obtain ⟨hs, hck⟩ := ww_ck2 hs
        have hrm1 := le2_ (hcs.roomC hc597 hck) hRc
        refine wa_ci (vx_runSW (As := [.ref (L 1 0), .int (xs (x4 + (1 : Int32)).toNatClampNeg), .ref (L 100 0)]) (rest := []) ⟨hx, hb, hml, hown, hts⟩ (c_X0_watched g hgm l L σ (xs (x4 + (1 : Int32)).toNatClampNeg) hst _ _ hc589) (vx_cwSW 3 hts (lw_SW q1261 q1262 q110 q1263) rfl rfl rfl hd_X0_watched.2 ⟨(Nat.le_of_ble_eq_true rfl), (Nat.le_of_ble_eq_true rfl)⟩) (ww_preS hW) rfl rfl hl.1 rfl (lv_room (Nat.le_of_ble_eq_true rfl)) dL_law_1551 hrm1) hW (fun H locs L hx1 hW => ?_)
        have hc598 : 0 < gN_ σ592 100 := Nat.lt_of_lt_of_le hc595 (hx1.2.1 100)
        have hcs := hcs.call hc597
        have hrm := hrm1
        have hl : lv_has ls 7 [(0, .ref b), (1, .ref (L 1 0)), (2, .ref (L 109 0)), (3, .ref (L 100 0)), (4, .int x4)] := by rw [hx1.at hp593 (by decide), hx1.at hp594 (by decide), hx1.at hp596 (by decide)]; exact hl
        have hx0 := hx0.trans hx1
        refine lv_istore (lv' := [(5, .int v591), (0, .ref b), (1, .ref (L 1 0)), (2, .ref (L 109 0)), (3, .ref (L 100 0)), (4, .int x4)]) hx hb dL_law_1554 hl (by decide) rfl (fun ls hl => ?_)
        refine lv_aload_n hx hb dL_law_1556 rfl (lv_at hl 3 rfl) ?_
        refine lv_aload_n hx hb dL_law_1557 rfl (lv_at hl 1 rfl) ?_
        refine lv_iload hx hb dL_law_1558 (lv_at hl 5 rfl) ?_
        refine lv_iconst (v := 1) hx hb dL_law_1560 (by decide) ?_
        refine lv_iadd hx hb dL_law_1561 ?_
        refine va_sld hx hb hX hbl hbA hW.2.2.1 hc588 dL_law_1562 ?_
        obtain ⟨v601, σ602, hc599, hs⟩ := ww_bn2 hs
        obtain ⟨hkp, hs⟩ := ww_pif hs
        obtain ⟨hx0, hcs⟩ := lx_s hx0 hcs hkp
        refine ww_ci (va_runV (As := [.int (xs (x4 + (1 : Int32)).toNatClampNeg)]) (rest := []) ⟨hx, hb, hml, hown, hts⟩ (c_X10_watched g hgm l L σ592 (xs (x4 + (1 : Int32)).toNatClampNeg) _ _ hc599) (cwV 1 hts (lw_V q2308 q2309 q2310 q123 q2311) rfl rfl rfl hd_X10_watched ⟨(Nat.le_of_ble_eq_true rfl), (Nat.le_of_ble_eq_true rfl)⟩) (ww_preV hW (pr_st (hW.rd hgm) (Nat.le_of_ble_eq_true rfl)) (obv_0 rfl) rfl) rfl rfl hl.1 rfl (lv_room (Nat.le_of_ble_eq_true rfl)) dL_law_1563 hrm) hW (fun H locs hW => ?_)
        have hc603 : 0 < gN_ σ602 100 := by rw [hkp.1]; exact hc598
        refine lv_istore (lv' := [(6, .int v601), (5, .int v591), (0, .ref b), (1, .ref (L 1 0)), (2, .ref (L 109 0)), (3, .ref (L 100 0)), (4, .int x4)]) hx hb dL_law_1566 hl (by decide) rfl (fun ls hl => ?_)
        refine lv_aload_n hx hb dL_law_1568 rfl (lv_at hl 4 rfl) ?_
        obtain ⟨v606, hc604, hs⟩ := ww_bnd hs
        refine ww_ci (va_runV (As := []) (rest := []) ⟨hx, hb, hml, hown, hts⟩ (c_X10_thrown g hgm l L σ602  _ hc604) (cwV 0 hts (lw_V q1671 q1672 q1673 q123 q1674) rfl rfl rfl hd_X10_thrown ⟨(Nat.le_of_ble_eq_true rfl), (Nat.le_of_ble_eq_true rfl)⟩) (ww_preV hW (pr_st (hW.rd hgm) (Nat.le_of_ble_eq_true rfl)) (obv_0 rfl) rfl) rfl rfl hl.1 rfl (lv_room (Nat.le_of_ble_eq_true rfl)) dL_law_1569 hrm) hW (fun H locs hW => ?_)
        refine lv_iload hx hb dL_law_1572 (lv_at hl 1 rfl) ?_
        refine lv_icmp_eq (tgt := 1579) hx hb dL_law_1574 (by decide) (fun hc607 => ?_) (fun hc607 => ?_)
        · have hs := ww_T hs hc607
          refine lv_iload hx hb dL_law_1579 (lv_at hl 1 rfl) ?_
          refine lv_if_ne (tgt := 1596) hx hb dL_law_1581 (by decide) (fun hc608 => ?_) (fun hc608 => ?_)
          · have hs := ww_F hs hc608
            exact hL1596 L σ602 x4 _ _ _ _ ls hx0 hcs hrm hW (lv_sub hl [2, 3, 4, 5, 6] rfl) hs
          · have hs := ww_T hs hc608
            refine lv_aload_n hx hb dL_law_1584 rfl (lv_at hl 5 rfl) ?_
            refine lv_iconst (v := 0) hx hb dL_law_1585 (by decide) ?_
            refine ww_lald hx hb hW (pr_dy hc603 rfl rfl) (j := (0 : Int32)) (vin_lit rfl) dL_law_1586 ?_
            refine lv_iload hx hb dL_law_1587 (lv_at hl 0 rfl) ?_
            refine lv_i2l hx hb dL_law_1589 rfl ?_
            refine W.lcmp hx hb dL_law_1590 ?_
            refine lv_if_eq (tgt := 1596) hx hb dL_law_1591 (by decide) (fun hc609 => ?_) (fun hc609 => ?_)
            · have hs := ww_T hs hc609
              exact hL1596 L σ602 x4 _ _ _ _ ls hx0 hcs hrm hW (lv_sub hl [2, 3, 4, 5, 6] rfl) hs
            · have hs := ww_F hs hc609
              refine lv_iconst (v := 0) hx hb dL_law_1594 (by decide) ?_
              have hs := ww_S hs
              exact wl_ret hx hb hr hlocks hW hsz hrm (congrArg Prod.fst hs) hr1 dL_law_1595
        · have hs := ww_F hs hc607
          refine lv_iconst (v := 0) hx hb dL_law_1577 (by decide) ?_
          have hs := ww_S hs
          exact wl_ret hx hb hr hlocks hW hsz hrm (congrArg Prod.fst hs) hr1 dL_law_1578
      have hL1518 : ∀ (L : ly_T) (σ : st_T) (x4 : Int32) (H : Heap) (locs : List Loc) (cells slots : Nat) (ls : Array Slot), lext L0 σ0 L σ → bk σ0 σ cells slots → (cells ≤ 1200384 ∧ slots ≤ 5487786) → wv g L σ s H locs → lv_has ls 7 [(0, .ref b), (1, .ref (L 1 0)), (2, .ref (L 109 0)), (3, .ref (L 100 0)), (4, .int x4)] → (m_L_law_L1518 N xs (m_L_law_L3445 N xs (m_L_law_L23 N xs n23))) σ x4 = some (r_, σ_) → W p l e (room_1) s m #[Value.ref b] below meth c H locs cells slots (lw_Z below #[Value.ref b] s) (F0 m 1518 ls []) := by
        intro L σ x4 H locs cells slots ls hx0 hcs hrm hW hl hs
        unfold m_L_law_L1518 at hs
        refine lv_aload_n hx hb dL_law_1518 rfl (lv_at hl 1 rfl) ?_
        refine lv_aload_n hx hb dL_law_1519 rfl (lv_at hl 0 rfl) ?_
        refine lv_iload hx hb dL_law_1520 (lv_at hl 4 rfl) ?_
        refine lv_iconst (v := 1) hx hb dL_law_1522 (by decide) ?_
        refine lv_iadd hx hb dL_law_1523 ?_
        obtain ⟨hc610, hs⟩ := ww_chk hs
        refine va_sld hx hb hX hbl hbA hW.2.2.1 hc610 dL_law_1524 ?_
        obtain ⟨v613, hc611, hs⟩ := ww_bnd hs
        refine ww_ci (va_runV (As := [.int (xs (x4 + (1 : Int32)).toNatClampNeg)]) (rest := []) ⟨hx, hb, hml, hown, hts⟩ (c_X1_turn g hgm l L σ (xs (x4 + (1 : Int32)).toNatClampNeg) _ hc611) (cwV 1 hts (lw_V q718 q719 q720 q111 q721) rfl rfl rfl hd_X1_turn ⟨(Nat.le_of_ble_eq_true rfl), (Nat.le_of_ble_eq_true rfl)⟩) (ww_preV hW (pr_st (hW.rd hgm) (Nat.le_of_ble_eq_true rfl)) (obv_0 rfl) rfl) rfl rfl hl.1 rfl (lv_room (Nat.le_of_ble_eq_true rfl)) dL_law_1525 hrm) hW (fun H locs hW => ?_)
        refine lv_aload_n hx hb dL_law_1528 rfl (lv_at hl 2 rfl) ?_
        refine lv_aload_n hx hb dL_law_1529 rfl (lv_at hl 0 rfl) ?_
        refine lv_iload hx hb dL_law_1530 (lv_at hl 4 rfl) ?_
        refine lv_iconst (v := 1) hx hb dL_law_1532 (by decide) ?_
        refine lv_iadd hx hb dL_law_1533 ?_
        refine va_sld hx hb hX hbl hbA hW.2.2.1 hc610 dL_law_1534 ?_
        obtain ⟨v616, σ617, hc614, hs⟩ := ww_bn2 hs
        obtain ⟨hkp, hs⟩ := ww_pif hs
        obtain ⟨hx0, hcs⟩ := lx_s hx0 hcs hkp
        refine ww_ci (va_runV (As := [.int (xs (x4 + (1 : Int32)).toNatClampNeg)]) (rest := [.int v613]) ⟨hx, hb, hml, hown, hts⟩ (c_X10_turn g hgm l L σ (xs (x4 + (1 : Int32)).toNatClampNeg) _ _ hc614) (cwV 1 hts (lw_V q2300 q2301 q2302 q123 q2303) rfl rfl rfl hd_X10_turn ⟨(Nat.le_of_ble_eq_true rfl), (Nat.le_of_ble_eq_true rfl)⟩) (ww_preV hW (pr_st (hW.rd hgm) (Nat.le_of_ble_eq_true rfl)) (obv_0 rfl) rfl) rfl rfl hl.1 rfl (lv_room (Nat.le_of_ble_eq_true rfl)) dL_law_1535 hrm) hW (fun H locs hW => ?_)
        refine lv_icmp_eq (tgt := 3445) hx hb dL_law_1538 (by decide) (fun hc618 => ?_) (fun hc618 => ?_)
        · have hs := ww_T hs hc618
          exact hL3445 L σ617 x4 _ _ _ _ ls hx0 hcs hrm hW (lv_sub hl [0, 1, 2, 3, 4] rfl) hs
        · have hs := ww_F hs hc618
          refine lv_iconst (v := 0) hx hb dL_law_1541 (by decide) ?_
          have hs := ww_S hs
          exact wl_ret hx hb hr hlocks hW hsz hrm (congrArg Prod.fst hs) hr1 dL_law_1542
      have hL1450 : ∀ (L : ly_T) (σ : st_T) (x4 : Int32) (H : Heap) (locs : List Loc) (cells slots : Nat) (ls : Array Slot), lext L0 σ0 L σ → bk σ0 σ cells slots → (cells ≤ 1200384 ∧ slots ≤ 5487786) → wv g L σ s H locs → lv_has ls 7 [(0, .ref b), (1, .ref (L 1 0)), (2, .ref (L 109 0)), (3, .ref (L 100 0)), (4, .int x4)] → (m_L_law_L1450 N xs (m_L_law_L3445 N xs (m_L_law_L23 N xs n23))) σ x4 = some (r_, σ_) → W p l e (room_1) s m #[Value.ref b] below meth c H locs cells slots (lw_Z below #[Value.ref b] s) (F0 m 1450 ls []) := by
        have hL1515 : ∀ (L : ly_T) (σ : st_T) (x4 : Int32) (H : Heap) (locs : List Loc) (cells slots : Nat) (ls : Array Slot), lext L0 σ0 L σ → bk σ0 σ cells slots → (cells ≤ 1200384 ∧ slots ≤ 5487786) → wv g L σ s H locs → lv_has ls 7 [(0, .ref b), (1, .ref (L 1 0)), (2, .ref (L 109 0)), (3, .ref (L 100 0)), (4, .int x4)] → (m_L_law_L1515 N xs (m_L_law_L3445 N xs (m_L_law_L23 N xs n23))) σ x4 = some (r_, σ_) → W p l e (room_1) s m #[Value.ref b] below meth c H locs cells slots (lw_Z below #[Value.ref b] s) (F0 m 1515 ls []) := by
          intro L σ x4 H locs cells slots ls hx0 hcs hrm hW hl hs
          unfold m_L_law_L1515 at hs
          refine lv_goto (tgt := 3445) hx hb dL_law_1515 (by decide) ?_
          exact hL3445 L σ x4 _ _ _ _ ls hx0 hcs hrm hW (lv_sub hl [0, 1, 2, 3, 4] rfl) hs
        intro L σ x4 H locs cells slots ls hx0 hcs hrm hW hl hs
        unfold m_L_law_L1450 at hs
        refine lv_aload_n hx hb dL_law_1450 rfl (lv_at hl 1 rfl) ?_
        refine lv_aload_n hx hb dL_law_1451 rfl (lv_at hl 0 rfl) ?_
        refine lv_iload hx hb dL_law_1452 (lv_at hl 4 rfl) ?_
        refine lv_iconst (v := 1) hx hb dL_law_1454 (by decide) ?_
        refine lv_iadd hx hb dL_law_1455 ?_
        obtain ⟨hc619, hs⟩ := ww_chk hs
        refine va_sld hx hb hX hbl hbA hW.2.2.1 hc619 dL_law_1456 ?_
        refine lv_aload_n hx hb dL_law_1457 rfl (lv_at hl 0 rfl) ?_
        refine lv_iload hx hb dL_law_1458 (lv_at hl 4 rfl) ?_
        refine lv_iconst (v := 2) hx hb dL_law_1460 (by decide) ?_
        refine lv_iadd hx hb dL_law_1461 ?_
        obtain ⟨hc620, hs⟩ := ww_chk hs
        refine va_sld hx hb hX hbl hbA hW.2.2.1 hc620 dL_law_1462 ?_
        refine lv_aload_n hx hb dL_law_1463 rfl (lv_at hl 3 rfl) ?_
        obtain ⟨v623, σ624, hc621, hs⟩ := ww_bn2 hs
        have hp625 : pr σ 1 0 := (pr_st (hW.rd hgm) (Nat.le_of_ble_eq_true rfl))
        have hp626 : pr σ 109 0 := (pr_st (hW.rd hgm) (Nat.le_of_ble_eq_true rfl))
        obtain ⟨hc627, hs⟩ := ww_chk hs
        have hp628 : pr σ 100 0 := (pr_dy hc627 rfl rfl)
        obtain ⟨hc629, hs⟩ := ww_chk hs
        obtain ⟨hs, hck⟩ := ww_ck2 hs
        have hrm1 := le2_ (hcs.roomC hc629 hck) hRc
        refine wa_ci (vx_runSW (As := [.ref (L 1 0), .int (xs (x4 + (1 : Int32)).toNatClampNeg), .int (xs (x4 + (2 : Int32)).toNatClampNeg), .ref (L 100 0)]) (rest := []) ⟨hx, hb, hml, hown, hts⟩ (c_X0_watch g hgm l L σ (xs (x4 + (1 : Int32)).toNatClampNeg) (xs (x4 + (2 : Int32)).toNatClampNeg) hst _ _ hc621) (vx_cwSW 4 hts (lw_SW q1254 q1255 q110 q1256) rfl rfl rfl hd_X0_watch.2 ⟨(Nat.le_of_ble_eq_true rfl), (Nat.le_of_ble_eq_true rfl)⟩) (ww_preS hW) rfl rfl hl.1 rfl (lv_room (Nat.le_of_ble_eq_true rfl)) dL_law_1464 hrm1) hW (fun H locs L hx1 hW => ?_)
        have hc630 : 0 < gN_ σ624 100 := Nat.lt_of_lt_of_le hc627 (hx1.2.1 100)
        have hcs := hcs.call hc629
        have hrm := hrm1
        have hl : lv_has ls 7 [(0, .ref b), (1, .ref (L 1 0)), (2, .ref (L 109 0)), (3, .ref (L 100 0)), (4, .int x4)] := by rw [hx1.at hp625 (by decide), hx1.at hp626 (by decide), hx1.at hp628 (by decide)]; exact hl
        have hx0 := hx0.trans hx1
        refine lv_istore (lv' := [(5, .int v623), (0, .ref b), (1, .ref (L 1 0)), (2, .ref (L 109 0)), (3, .ref (L 100 0)), (4, .int x4)]) hx hb dL_law_1467 hl (by decide) rfl (fun ls hl => ?_)
        refine lv_aload_n hx hb dL_law_1469 rfl (lv_at hl 3 rfl) ?_
        refine lv_aload_n hx hb dL_law_1470 rfl (lv_at hl 1 rfl) ?_
        refine lv_iload hx hb dL_law_1471 (lv_at hl 5 rfl) ?_
        refine lv_iconst (v := 1) hx hb dL_law_1473 (by decide) ?_
        refine lv_iadd hx hb dL_law_1474 ?_
        refine va_sld hx hb hX hbl hbA hW.2.2.1 hc619 dL_law_1475 ?_
        refine lv_aload_n hx hb dL_law_1476 rfl (lv_at hl 1 rfl) ?_
        refine lv_iload hx hb dL_law_1477 (lv_at hl 5 rfl) ?_
        refine lv_iconst (v := 2) hx hb dL_law_1479 (by decide) ?_
        refine lv_iadd hx hb dL_law_1480 ?_
        refine va_sld hx hb hX hbl hbA hW.2.2.1 hc620 dL_law_1481 ?_
        obtain ⟨v633, σ634, hc631, hs⟩ := ww_bn2 hs
        obtain ⟨hkp, hs⟩ := ww_pif hs
        obtain ⟨hx0, hcs⟩ := lx_s hx0 hcs hkp
        refine ww_ci (va_runV (As := [.int (xs (x4 + (1 : Int32)).toNatClampNeg), .int (xs (x4 + (2 : Int32)).toNatClampNeg)]) (rest := []) ⟨hx, hb, hml, hown, hts⟩ (c_X10_watch g hgm l L σ624 (xs (x4 + (1 : Int32)).toNatClampNeg) (xs (x4 + (2 : Int32)).toNatClampNeg) _ _ hc631) (cwV 2 hts (lw_V q2292 q2293 q2294 q123 q2295) rfl rfl rfl hd_X10_watch ⟨(Nat.le_of_ble_eq_true rfl), (Nat.le_of_ble_eq_true rfl)⟩) (ww_preV hW (pr_st (hW.rd hgm) (Nat.le_of_ble_eq_true rfl)) (obv_0 rfl) rfl) rfl rfl hl.1 rfl (lv_room (Nat.le_of_ble_eq_true rfl)) dL_law_1482 hrm) hW (fun H locs hW => ?_)
        have hc635 : 0 < gN_ σ634 100 := by rw [hkp.1]; exact hc630
        refine lv_istore (lv' := [(6, .int v633), (5, .int v623), (0, .ref b), (1, .ref (L 1 0)), (2, .ref (L 109 0)), (3, .ref (L 100 0)), (4, .int x4)]) hx hb dL_law_1485 hl (by decide) rfl (fun ls hl => ?_)
        refine lv_aload_n hx hb dL_law_1487 rfl (lv_at hl 4 rfl) ?_
        obtain ⟨v638, hc636, hs⟩ := ww_bnd hs
        refine ww_ci (va_runV (As := []) (rest := []) ⟨hx, hb, hml, hown, hts⟩ (c_X10_thrown g hgm l L σ634  _ hc636) (cwV 0 hts (lw_V q1671 q1672 q1673 q123 q1674) rfl rfl rfl hd_X10_thrown ⟨(Nat.le_of_ble_eq_true rfl), (Nat.le_of_ble_eq_true rfl)⟩) (ww_preV hW (pr_st (hW.rd hgm) (Nat.le_of_ble_eq_true rfl)) (obv_0 rfl) rfl) rfl rfl hl.1 rfl (lv_room (Nat.le_of_ble_eq_true rfl)) dL_law_1488 hrm) hW (fun H locs hW => ?_)
        refine lv_iload hx hb dL_law_1491 (lv_at hl 1 rfl) ?_
        refine lv_icmp_eq (tgt := 1498) hx hb dL_law_1493 (by decide) (fun hc639 => ?_) (fun hc639 => ?_)
        · have hs := ww_T hs hc639
          refine lv_iload hx hb dL_law_1498 (lv_at hl 1 rfl) ?_
          refine lv_if_ne (tgt := 1515) hx hb dL_law_1500 (by decide) (fun hc640 => ?_) (fun hc640 => ?_)
          · have hs := ww_F hs hc640
            exact hL1515 L σ634 x4 _ _ _ _ ls hx0 hcs hrm hW (lv_sub hl [2, 3, 4, 5, 6] rfl) hs
          · have hs := ww_T hs hc640
            refine lv_aload_n hx hb dL_law_1503 rfl (lv_at hl 5 rfl) ?_
            refine lv_iconst (v := 0) hx hb dL_law_1504 (by decide) ?_
            refine ww_lald hx hb hW (pr_dy hc635 rfl rfl) (j := (0 : Int32)) (vin_lit rfl) dL_law_1505 ?_
            refine lv_iload hx hb dL_law_1506 (lv_at hl 0 rfl) ?_
            refine lv_i2l hx hb dL_law_1508 rfl ?_
            refine W.lcmp hx hb dL_law_1509 ?_
            refine lv_if_eq (tgt := 1515) hx hb dL_law_1510 (by decide) (fun hc641 => ?_) (fun hc641 => ?_)
            · have hs := ww_T hs hc641
              exact hL1515 L σ634 x4 _ _ _ _ ls hx0 hcs hrm hW (lv_sub hl [2, 3, 4, 5, 6] rfl) hs
            · have hs := ww_F hs hc641
              refine lv_iconst (v := 0) hx hb dL_law_1513 (by decide) ?_
              have hs := ww_S hs
              exact wl_ret hx hb hr hlocks hW hsz hrm (congrArg Prod.fst hs) hr1 dL_law_1514
        · have hs := ww_F hs hc639
          refine lv_iconst (v := 0) hx hb dL_law_1496 (by decide) ?_
          have hs := ww_S hs
          exact wl_ret hx hb hr hlocks hW hsz hrm (congrArg Prod.fst hs) hr1 dL_law_1497
      have hL1394 : ∀ (L : ly_T) (σ : st_T) (x4 : Int32) (H : Heap) (locs : List Loc) (cells slots : Nat) (ls : Array Slot), lext L0 σ0 L σ → bk σ0 σ cells slots → (cells ≤ 1200384 ∧ slots ≤ 5487786) → wv g L σ s H locs → lv_has ls 7 [(0, .ref b), (1, .ref (L 1 0)), (2, .ref (L 109 0)), (3, .ref (L 100 0)), (4, .int x4)] → (m_L_law_L1394 N xs (m_L_law_L3445 N xs (m_L_law_L23 N xs n23))) σ x4 = some (r_, σ_) → W p l e (room_1) s m #[Value.ref b] below meth c H locs cells slots (lw_Z below #[Value.ref b] s) (F0 m 1394 ls []) := by
        have hL1447 : ∀ (L : ly_T) (σ : st_T) (x4 : Int32) (H : Heap) (locs : List Loc) (cells slots : Nat) (ls : Array Slot), lext L0 σ0 L σ → bk σ0 σ cells slots → (cells ≤ 1200384 ∧ slots ≤ 5487786) → wv g L σ s H locs → lv_has ls 7 [(0, .ref b), (1, .ref (L 1 0)), (2, .ref (L 109 0)), (3, .ref (L 100 0)), (4, .int x4)] → (m_L_law_L1447 N xs (m_L_law_L3445 N xs (m_L_law_L23 N xs n23))) σ x4 = some (r_, σ_) → W p l e (room_1) s m #[Value.ref b] below meth c H locs cells slots (lw_Z below #[Value.ref b] s) (F0 m 1447 ls []) := by
          intro L σ x4 H locs cells slots ls hx0 hcs hrm hW hl hs
          unfold m_L_law_L1447 at hs
          refine lv_goto (tgt := 3445) hx hb dL_law_1447 (by decide) ?_
          exact hL3445 L σ x4 _ _ _ _ ls hx0 hcs hrm hW (lv_sub hl [0, 1, 2, 3, 4] rfl) hs
        intro L σ x4 H locs cells slots ls hx0 hcs hrm hW hl hs
        unfold m_L_law_L1394 at hs
        refine lv_aload_n hx hb dL_law_1394 rfl (lv_at hl 1 rfl) ?_
        refine lv_aload_n hx hb dL_law_1395 rfl (lv_at hl 0 rfl) ?_
        refine lv_iload hx hb dL_law_1396 (lv_at hl 4 rfl) ?_
        refine lv_iconst (v := 1) hx hb dL_law_1398 (by decide) ?_
        refine lv_iadd hx hb dL_law_1399 ?_
        obtain ⟨hc642, hs⟩ := ww_chk hs
        refine va_sld hx hb hX hbl hbA hW.2.2.1 hc642 dL_law_1400 ?_
        refine lv_aload_n hx hb dL_law_1401 rfl (lv_at hl 3 rfl) ?_
        obtain ⟨v645, σ646, hc643, hs⟩ := ww_bn2 hs
        have hp647 : pr σ 1 0 := (pr_st (hW.rd hgm) (Nat.le_of_ble_eq_true rfl))
        have hp648 : pr σ 109 0 := (pr_st (hW.rd hgm) (Nat.le_of_ble_eq_true rfl))
        obtain ⟨hc649, hs⟩ := ww_chk hs
        have hp650 : pr σ 100 0 := (pr_dy hc649 rfl rfl)
        obtain ⟨hc651, hs⟩ := ww_chk hs
        obtain ⟨hs, hck⟩ := ww_ck2 hs
        have hrm1 := le2_ (hcs.roomC hc651 hck) hRc
        refine wa_ci (vx_runSW (As := [.ref (L 1 0), .int (xs (x4 + (1 : Int32)).toNatClampNeg), .ref (L 100 0)]) (rest := []) ⟨hx, hb, hml, hown, hts⟩ (c_X0_debt g hgm l L σ (xs (x4 + (1 : Int32)).toNatClampNeg) hst _ _ hc643) (vx_cwSW 3 hts (lw_SW q1247 q1248 q110 q1249) rfl rfl rfl hd_X0_debt.2 ⟨(Nat.le_of_ble_eq_true rfl), (Nat.le_of_ble_eq_true rfl)⟩) (ww_preS hW) rfl rfl hl.1 rfl (lv_room (Nat.le_of_ble_eq_true rfl)) dL_law_1402 hrm1) hW (fun H locs L hx1 hW => ?_)
        have hc652 : 0 < gN_ σ646 100 := Nat.lt_of_lt_of_le hc649 (hx1.2.1 100)
        have hcs := hcs.call hc651
        have hrm := hrm1
        have hl : lv_has ls 7 [(0, .ref b), (1, .ref (L 1 0)), (2, .ref (L 109 0)), (3, .ref (L 100 0)), (4, .int x4)] := by rw [hx1.at hp647 (by decide), hx1.at hp648 (by decide), hx1.at hp650 (by decide)]; exact hl
        have hx0 := hx0.trans hx1
        refine lv_istore (lv' := [(5, .int v645), (0, .ref b), (1, .ref (L 1 0)), (2, .ref (L 109 0)), (3, .ref (L 100 0)), (4, .int x4)]) hx hb dL_law_1405 hl (by decide) rfl (fun ls hl => ?_)
        refine lv_aload_n hx hb dL_law_1407 rfl (lv_at hl 3 rfl) ?_
        refine lv_aload_n hx hb dL_law_1408 rfl (lv_at hl 1 rfl) ?_
        refine lv_iload hx hb dL_law_1409 (lv_at hl 5 rfl) ?_
        refine lv_iconst (v := 1) hx hb dL_law_1411 (by decide) ?_
        refine lv_iadd hx hb dL_law_1412 ?_
        refine va_sld hx hb hX hbl hbA hW.2.2.1 hc642 dL_law_1413 ?_
        obtain ⟨v655, σ656, hc653, hs⟩ := ww_bn2 hs
        obtain ⟨hkp, hs⟩ := ww_pif hs
        obtain ⟨hx0, hcs⟩ := lx_s hx0 hcs hkp
        refine ww_ci (va_runV (As := [.int (xs (x4 + (1 : Int32)).toNatClampNeg)]) (rest := []) ⟨hx, hb, hml, hown, hts⟩ (c_X10_debt g hgm l L σ646 (xs (x4 + (1 : Int32)).toNatClampNeg) _ _ hc653) (cwV 1 hts (lw_V q2288 q2289 q2290 q123 q2291) rfl rfl rfl hd_X10_debt ⟨(Nat.le_of_ble_eq_true rfl), (Nat.le_of_ble_eq_true rfl)⟩) (ww_preV hW (pr_st (hW.rd hgm) (Nat.le_of_ble_eq_true rfl)) (obv_0 rfl) rfl) rfl rfl hl.1 rfl (lv_room (Nat.le_of_ble_eq_true rfl)) dL_law_1414 hrm) hW (fun H locs hW => ?_)
        have hc657 : 0 < gN_ σ656 100 := by rw [hkp.1]; exact hc652
        refine lv_istore (lv' := [(6, .int v655), (5, .int v645), (0, .ref b), (1, .ref (L 1 0)), (2, .ref (L 109 0)), (3, .ref (L 100 0)), (4, .int x4)]) hx hb dL_law_1417 hl (by decide) rfl (fun ls hl => ?_)
        refine lv_aload_n hx hb dL_law_1419 rfl (lv_at hl 4 rfl) ?_
        obtain ⟨v660, hc658, hs⟩ := ww_bnd hs
        refine ww_ci (va_runV (As := []) (rest := []) ⟨hx, hb, hml, hown, hts⟩ (c_X10_thrown g hgm l L σ656  _ hc658) (cwV 0 hts (lw_V q1671 q1672 q1673 q123 q1674) rfl rfl rfl hd_X10_thrown ⟨(Nat.le_of_ble_eq_true rfl), (Nat.le_of_ble_eq_true rfl)⟩) (ww_preV hW (pr_st (hW.rd hgm) (Nat.le_of_ble_eq_true rfl)) (obv_0 rfl) rfl) rfl rfl hl.1 rfl (lv_room (Nat.le_of_ble_eq_true rfl)) dL_law_1420 hrm) hW (fun H locs hW => ?_)
        refine lv_iload hx hb dL_law_1423 (lv_at hl 1 rfl) ?_
        refine lv_icmp_eq (tgt := 1430) hx hb dL_law_1425 (by decide) (fun hc661 => ?_) (fun hc661 => ?_)
        · have hs := ww_T hs hc661
          refine lv_iload hx hb dL_law_1430 (lv_at hl 1 rfl) ?_
          refine lv_if_ne (tgt := 1447) hx hb dL_law_1432 (by decide) (fun hc662 => ?_) (fun hc662 => ?_)
          · have hs := ww_F hs hc662
            exact hL1447 L σ656 x4 _ _ _ _ ls hx0 hcs hrm hW (lv_sub hl [2, 3, 4, 5, 6] rfl) hs
          · have hs := ww_T hs hc662
            refine lv_aload_n hx hb dL_law_1435 rfl (lv_at hl 5 rfl) ?_
            refine lv_iconst (v := 0) hx hb dL_law_1436 (by decide) ?_
            refine ww_lald hx hb hW (pr_dy hc657 rfl rfl) (j := (0 : Int32)) (vin_lit rfl) dL_law_1437 ?_
            refine lv_iload hx hb dL_law_1438 (lv_at hl 0 rfl) ?_
            refine lv_i2l hx hb dL_law_1440 rfl ?_
            refine W.lcmp hx hb dL_law_1441 ?_
            refine lv_if_eq (tgt := 1447) hx hb dL_law_1442 (by decide) (fun hc663 => ?_) (fun hc663 => ?_)
            · have hs := ww_T hs hc663
              exact hL1447 L σ656 x4 _ _ _ _ ls hx0 hcs hrm hW (lv_sub hl [2, 3, 4, 5, 6] rfl) hs
            · have hs := ww_F hs hc663
              refine lv_iconst (v := 0) hx hb dL_law_1445 (by decide) ?_
              have hs := ww_S hs
              exact wl_ret hx hb hr hlocks hW hsz hrm (congrArg Prod.fst hs) hr1 dL_law_1446
        · have hs := ww_F hs hc661
          refine lv_iconst (v := 0) hx hb dL_law_1428 (by decide) ?_
          have hs := ww_S hs
          exact wl_ret hx hb hr hlocks hW hsz hrm (congrArg Prod.fst hs) hr1 dL_law_1429
      have hL1381 : ∀ (L : ly_T) (σ : st_T) (x4 : Int32) (H : Heap) (locs : List Loc) (cells slots : Nat) (ls : Array Slot), lext L0 σ0 L σ → bk σ0 σ cells slots → (cells ≤ 1200384 ∧ slots ≤ 5487786) → wv g L σ s H locs → lv_has ls 7 [(0, .ref b), (1, .ref (L 1 0)), (2, .ref (L 109 0)), (3, .ref (L 100 0)), (4, .int x4)] → (m_L_law_L1381 N xs (m_L_law_L3445 N xs (m_L_law_L23 N xs n23))) σ x4 = some (r_, σ_) → W p l e (room_1) s m #[Value.ref b] below meth c H locs cells slots (lw_Z below #[Value.ref b] s) (F0 m 1381 ls []) := by
        intro L σ x4 H locs cells slots ls hx0 hcs hrm hW hl hs
        unfold m_L_law_L1381 at hs
        refine lv_aload_n hx hb dL_law_1381 rfl (lv_at hl 1 rfl) ?_
        obtain ⟨v666, σ667, hc664, hs⟩ := ww_bn2 hs
        have hp668 : pr σ 1 0 := (pr_st (hW.rd hgm) (Nat.le_of_ble_eq_true rfl))
        have hp669 : pr σ 109 0 := (pr_st (hW.rd hgm) (Nat.le_of_ble_eq_true rfl))
        obtain ⟨hc670, hs⟩ := ww_chk hs
        have hp671 : pr σ 100 0 := (pr_dy hc670 rfl rfl)
        obtain ⟨hc672, hs⟩ := ww_chk hs
        obtain ⟨hs, hck⟩ := ww_ck2 hs
        have hrm1 := le2_ (hcs.roomC hc672 hck) hRc
        refine wa_ci (va_runV (As := []) (rest := []) ⟨hx, hb, hml, hown, hts⟩ (c_X1_night g hgm l L σ  _ _ hc664) (cwV 0 hts (lw_V q485 q486 q487 q111 q488) rfl rfl rfl hd_X1_night ⟨(Nat.le_of_ble_eq_true rfl), (Nat.le_of_ble_eq_true rfl)⟩) (ww_preV hW (pr_st (hW.rd hgm) (Nat.le_of_ble_eq_true rfl)) (obv_0 rfl) rfl) rfl rfl hl.1 rfl (lv_room (Nat.le_of_ble_eq_true rfl)) dL_law_1382 hrm1) hW (fun H locs L hx1 hW => ?_)
        have hc673 : 0 < gN_ σ667 100 := Nat.lt_of_lt_of_le hc670 (hx1.2.1 100)
        have hcs := hcs.call hc672
        have hrm := hrm1
        have hl : lv_has ls 7 [(0, .ref b), (1, .ref (L 1 0)), (2, .ref (L 109 0)), (3, .ref (L 100 0)), (4, .int x4)] := by rw [hx1.at hp668 (by decide), hx1.at hp669 (by decide), hx1.at hp671 (by decide)]; exact hl
        have hx0 := hx0.trans hx1
        refine lv_aload_n hx hb dL_law_1385 rfl (lv_at hl 2 rfl) ?_
        obtain ⟨v676, σ677, hc674, hs⟩ := ww_bn2 hs
        obtain ⟨hkp, hs⟩ := ww_pif hs
        obtain ⟨hx0, hcs⟩ := lx_s hx0 hcs hkp
        refine ww_ci (va_runV (As := []) (rest := [.int v666]) ⟨hx, hb, hml, hown, hts⟩ (c_X10_night g hgm l L σ667  _ _ hc674) (cwV 0 hts (lw_V q2268 q2269 q2270 q123 q2271) rfl rfl rfl hd_X10_night ⟨(Nat.le_of_ble_eq_true rfl), (Nat.le_of_ble_eq_true rfl)⟩) (ww_preV hW (pr_st (hW.rd hgm) (Nat.le_of_ble_eq_true rfl)) (obv_0 rfl) rfl) rfl rfl hl.1 rfl (lv_room (Nat.le_of_ble_eq_true rfl)) dL_law_1386 hrm) hW (fun H locs hW => ?_)
        have hc678 : 0 < gN_ σ677 100 := by rw [hkp.1]; exact hc673
        refine lv_icmp_eq (tgt := 3445) hx hb dL_law_1389 (by decide) (fun hc679 => ?_) (fun hc679 => ?_)
        · have hs := ww_T hs hc679
          exact hL3445 L σ677 x4 _ _ _ _ ls hx0 hcs hrm hW (lv_sub hl [0, 1, 2, 3, 4] rfl) hs
        · have hs := ww_F hs hc679
          refine lv_iconst (v := 0) hx hb dL_law_1392 (by decide) ?_
          have hs := ww_S hs
          exact wl_ret hx hb hr hlocks hW hsz hrm (congrArg Prod.fst hs) hr1 dL_law_1393
      have hL1313 : ∀ (L : ly_T) (σ : st_T) (x4 : Int32) (H : Heap) (locs : List Loc) (cells slots : Nat) (ls : Array Slot), lext L0 σ0 L σ → bk σ0 σ cells slots → (cells ≤ 1200384 ∧ slots ≤ 5487786) → wv g L σ s H locs → lv_has ls 7 [(0, .ref b), (1, .ref (L 1 0)), (2, .ref (L 109 0)), (3, .ref (L 100 0)), (4, .int x4)] → (m_L_law_L1313 N xs (m_L_law_L3445 N xs (m_L_law_L23 N xs n23))) σ x4 = some (r_, σ_) → W p l e (room_1) s m #[Value.ref b] below meth c H locs cells slots (lw_Z below #[Value.ref b] s) (F0 m 1313 ls []) := by
        have hL1378 : ∀ (L : ly_T) (σ : st_T) (x4 : Int32) (H : Heap) (locs : List Loc) (cells slots : Nat) (ls : Array Slot), lext L0 σ0 L σ → bk σ0 σ cells slots → (cells ≤ 1200384 ∧ slots ≤ 5487786) → wv g L σ s H locs → lv_has ls 7 [(0, .ref b), (1, .ref (L 1 0)), (2, .ref (L 109 0)), (3, .ref (L 100 0)), (4, .int x4)] → (m_L_law_L1378 N xs (m_L_law_L3445 N xs (m_L_law_L23 N xs n23))) σ x4 = some (r_, σ_) → W p l e (room_1) s m #[Value.ref b] below meth c H locs cells slots (lw_Z below #[Value.ref b] s) (F0 m 1378 ls []) := by
          intro L σ x4 H locs cells slots ls hx0 hcs hrm hW hl hs
          unfold m_L_law_L1378 at hs
          refine lv_goto (tgt := 3445) hx hb dL_law_1378 (by decide) ?_
          exact hL3445 L σ x4 _ _ _ _ ls hx0 hcs hrm hW (lv_sub hl [0, 1, 2, 3, 4] rfl) hs
        intro L σ x4 H locs cells slots ls hx0 hcs hrm hW hl hs
        unfold m_L_law_L1313 at hs
        refine lv_aload_n hx hb dL_law_1313 rfl (lv_at hl 1 rfl) ?_
        refine lv_aload_n hx hb dL_law_1314 rfl (lv_at hl 0 rfl) ?_
        refine lv_iload hx hb dL_law_1315 (lv_at hl 4 rfl) ?_
        refine lv_iconst (v := 1) hx hb dL_law_1317 (by decide) ?_
        refine lv_iadd hx hb dL_law_1318 ?_
        obtain ⟨hc680, hs⟩ := ww_chk hs
        refine va_sld hx hb hX hbl hbA hW.2.2.1 hc680 dL_law_1319 ?_
        refine lv_aload_n hx hb dL_law_1320 rfl (lv_at hl 0 rfl) ?_
        refine lv_iload hx hb dL_law_1321 (lv_at hl 4 rfl) ?_
        refine lv_iconst (v := 2) hx hb dL_law_1323 (by decide) ?_
        refine lv_iadd hx hb dL_law_1324 ?_
        obtain ⟨hc681, hs⟩ := ww_chk hs
        refine va_sld hx hb hX hbl hbA hW.2.2.1 hc681 dL_law_1325 ?_
        refine lv_aload_n hx hb dL_law_1326 rfl (lv_at hl 3 rfl) ?_
        obtain ⟨v684, σ685, hc682, hs⟩ := ww_bn2 hs
        have hp686 : pr σ 1 0 := (pr_st (hW.rd hgm) (Nat.le_of_ble_eq_true rfl))
        have hp687 : pr σ 109 0 := (pr_st (hW.rd hgm) (Nat.le_of_ble_eq_true rfl))
        obtain ⟨hc688, hs⟩ := ww_chk hs
        have hp689 : pr σ 100 0 := (pr_dy hc688 rfl rfl)
        obtain ⟨hc690, hs⟩ := ww_chk hs
        obtain ⟨hs, hck⟩ := ww_ck2 hs
        have hrm1 := le2_ (hcs.roomC hc690 hck) hRc
        refine wa_ci (vx_runSW (As := [.ref (L 1 0), .int (xs (x4 + (1 : Int32)).toNatClampNeg), .int (xs (x4 + (2 : Int32)).toNatClampNeg), .ref (L 100 0)]) (rest := []) ⟨hx, hb, hml, hown, hts⟩ (c_X0_build g hgm l L σ (xs (x4 + (1 : Int32)).toNatClampNeg) (xs (x4 + (2 : Int32)).toNatClampNeg) hst _ _ hc682) (vx_cwSW 4 hts (lw_SW q1234 q1235 q110 q1236) rfl rfl rfl hd_X0_build.2 ⟨(Nat.le_of_ble_eq_true rfl), (Nat.le_of_ble_eq_true rfl)⟩) (ww_preS hW) rfl rfl hl.1 rfl (lv_room (Nat.le_of_ble_eq_true rfl)) dL_law_1327 hrm1) hW (fun H locs L hx1 hW => ?_)
        have hc691 : 0 < gN_ σ685 100 := Nat.lt_of_lt_of_le hc688 (hx1.2.1 100)
        have hcs := hcs.call hc690
        have hrm := hrm1
        have hl : lv_has ls 7 [(0, .ref b), (1, .ref (L 1 0)), (2, .ref (L 109 0)), (3, .ref (L 100 0)), (4, .int x4)] := by rw [hx1.at hp686 (by decide), hx1.at hp687 (by decide), hx1.at hp689 (by decide)]; exact hl
        have hx0 := hx0.trans hx1
        refine lv_istore (lv' := [(5, .int v684), (0, .ref b), (1, .ref (L 1 0)), (2, .ref (L 109 0)), (3, .ref (L 100 0)), (4, .int x4)]) hx hb dL_law_1330 hl (by decide) rfl (fun ls hl => ?_)
        refine lv_aload_n hx hb dL_law_1332 rfl (lv_at hl 3 rfl) ?_
        refine lv_aload_n hx hb dL_law_1333 rfl (lv_at hl 1 rfl) ?_
        refine lv_iload hx hb dL_law_1334 (lv_at hl 5 rfl) ?_
        refine lv_iconst (v := 1) hx hb dL_law_1336 (by decide) ?_
        refine lv_iadd hx hb dL_law_1337 ?_
        refine va_sld hx hb hX hbl hbA hW.2.2.1 hc680 dL_law_1338 ?_
        refine lv_aload_n hx hb dL_law_1339 rfl (lv_at hl 1 rfl) ?_
        refine lv_iload hx hb dL_law_1340 (lv_at hl 5 rfl) ?_
        refine lv_iconst (v := 2) hx hb dL_law_1342 (by decide) ?_
        refine lv_iadd hx hb dL_law_1343 ?_
        refine va_sld hx hb hX hbl hbA hW.2.2.1 hc681 dL_law_1344 ?_
        obtain ⟨v694, σ695, hc692, hs⟩ := ww_bn2 hs
        obtain ⟨hkp, hs⟩ := ww_pif hs
        obtain ⟨hx0, hcs⟩ := lx_s hx0 hcs hkp
        refine ww_ci (va_runV (As := [.int (xs (x4 + (1 : Int32)).toNatClampNeg), .int (xs (x4 + (2 : Int32)).toNatClampNeg)]) (rest := []) ⟨hx, hb, hml, hown, hts⟩ (c_X10_build g hgm l L σ685 (xs (x4 + (1 : Int32)).toNatClampNeg) (xs (x4 + (2 : Int32)).toNatClampNeg) _ _ hc692) (cwV 2 hts (lw_V q2252 q2253 q2254 q123 q2255) rfl rfl rfl hd_X10_build ⟨(Nat.le_of_ble_eq_true rfl), (Nat.le_of_ble_eq_true rfl)⟩) (ww_preV hW (pr_st (hW.rd hgm) (Nat.le_of_ble_eq_true rfl)) (obv_0 rfl) rfl) rfl rfl hl.1 rfl (lv_room (Nat.le_of_ble_eq_true rfl)) dL_law_1345 hrm) hW (fun H locs hW => ?_)
        have hc696 : 0 < gN_ σ695 100 := by rw [hkp.1]; exact hc691
        refine lv_istore (lv' := [(6, .int v694), (5, .int v684), (0, .ref b), (1, .ref (L 1 0)), (2, .ref (L 109 0)), (3, .ref (L 100 0)), (4, .int x4)]) hx hb dL_law_1348 hl (by decide) rfl (fun ls hl => ?_)
        refine lv_aload_n hx hb dL_law_1350 rfl (lv_at hl 4 rfl) ?_
        obtain ⟨v699, hc697, hs⟩ := ww_bnd hs
        refine ww_ci (va_runV (As := []) (rest := []) ⟨hx, hb, hml, hown, hts⟩ (c_X10_thrown g hgm l L σ695  _ hc697) (cwV 0 hts (lw_V q1671 q1672 q1673 q123 q1674) rfl rfl rfl hd_X10_thrown ⟨(Nat.le_of_ble_eq_true rfl), (Nat.le_of_ble_eq_true rfl)⟩) (ww_preV hW (pr_st (hW.rd hgm) (Nat.le_of_ble_eq_true rfl)) (obv_0 rfl) rfl) rfl rfl hl.1 rfl (lv_room (Nat.le_of_ble_eq_true rfl)) dL_law_1351 hrm) hW (fun H locs hW => ?_)
        refine lv_iload hx hb dL_law_1354 (lv_at hl 1 rfl) ?_
        refine lv_icmp_eq (tgt := 1361) hx hb dL_law_1356 (by decide) (fun hc700 => ?_) (fun hc700 => ?_)
        · have hs := ww_T hs hc700
          refine lv_iload hx hb dL_law_1361 (lv_at hl 1 rfl) ?_
          refine lv_if_ne (tgt := 1378) hx hb dL_law_1363 (by decide) (fun hc701 => ?_) (fun hc701 => ?_)
          · have hs := ww_F hs hc701
            exact hL1378 L σ695 x4 _ _ _ _ ls hx0 hcs hrm hW (lv_sub hl [2, 3, 4, 5, 6] rfl) hs
          · have hs := ww_T hs hc701
            refine lv_aload_n hx hb dL_law_1366 rfl (lv_at hl 5 rfl) ?_
            refine lv_iconst (v := 0) hx hb dL_law_1367 (by decide) ?_
            refine ww_lald hx hb hW (pr_dy hc696 rfl rfl) (j := (0 : Int32)) (vin_lit rfl) dL_law_1368 ?_
            refine lv_iload hx hb dL_law_1369 (lv_at hl 0 rfl) ?_
            refine lv_i2l hx hb dL_law_1371 rfl ?_
            refine W.lcmp hx hb dL_law_1372 ?_
            refine lv_if_eq (tgt := 1378) hx hb dL_law_1373 (by decide) (fun hc702 => ?_) (fun hc702 => ?_)
            · have hs := ww_T hs hc702
              exact hL1378 L σ695 x4 _ _ _ _ ls hx0 hcs hrm hW (lv_sub hl [2, 3, 4, 5, 6] rfl) hs
            · have hs := ww_F hs hc702
              refine lv_iconst (v := 0) hx hb dL_law_1376 (by decide) ?_
              have hs := ww_S hs
              exact wl_ret hx hb hr hlocks hW hsz hrm (congrArg Prod.fst hs) hr1 dL_law_1377
        · have hs := ww_F hs hc700
          refine lv_iconst (v := 0) hx hb dL_law_1359 (by decide) ?_
          have hs := ww_S hs
          exact wl_ret hx hb hr hlocks hW hsz hrm (congrArg Prod.fst hs) hr1 dL_law_1360
      have hL1233 : ∀ (L : ly_T) (σ : st_T) (x4 : Int32) (H : Heap) (locs : List Loc) (cells slots : Nat) (ls : Array Slot), lext L0 σ0 L σ → bk σ0 σ cells slots → (cells ≤ 1200384 ∧ slots ≤ 5487786) → wv g L σ s H locs → lv_has ls 7 [(0, .ref b), (1, .ref (L 1 0)), (2, .ref (L 109 0)), (3, .ref (L 100 0)), (4, .int x4)] → (m_L_law_L1233 N xs (m_L_law_L3445 N xs (m_L_law_L23 N xs n23))) σ x4 = some (r_, σ_) → W p l e (room_1) s m #[Value.ref b] below meth c H locs cells slots (lw_Z below #[Value.ref b] s) (F0 m 1233 ls []) := by
        have hL1310 : ∀ (L : ly_T) (σ : st_T) (x4 : Int32) (H : Heap) (locs : List Loc) (cells slots : Nat) (ls : Array Slot), lext L0 σ0 L σ → bk σ0 σ cells slots → (cells ≤ 1200384 ∧ slots ≤ 5487786) → wv g L σ s H locs → lv_has ls 7 [(0, .ref b), (1, .ref (L 1 0)), (2, .ref (L 109 0)), (3, .ref (L 100 0)), (4, .int x4)] → (m_L_law_L1310 N xs (m_L_law_L3445 N xs (m_L_law_L23 N xs n23))) σ x4 = some (r_, σ_) → W p l e (room_1) s m #[Value.ref b] below meth c H locs cells slots (lw_Z below #[Value.ref b] s) (F0 m 1310 ls []) := by
          intro L σ x4 H locs cells slots ls hx0 hcs hrm hW hl hs
          unfold m_L_law_L1310 at hs
          refine lv_goto (tgt := 3445) hx hb dL_law_1310 (by decide) ?_
          exact hL3445 L σ x4 _ _ _ _ ls hx0 hcs hrm hW (lv_sub hl [0, 1, 2, 3, 4] rfl) hs
        intro L σ x4 H locs cells slots ls hx0 hcs hrm hW hl hs
        unfold m_L_law_L1233 at hs
        refine lv_aload_n hx hb dL_law_1233 rfl (lv_at hl 1 rfl) ?_
        refine lv_aload_n hx hb dL_law_1234 rfl (lv_at hl 0 rfl) ?_
        refine lv_iload hx hb dL_law_1235 (lv_at hl 4 rfl) ?_
        refine lv_iconst (v := 1) hx hb dL_law_1237 (by decide) ?_
        refine lv_iadd hx hb dL_law_1238 ?_
        obtain ⟨hc703, hs⟩ := ww_chk hs
        refine va_sld hx hb hX hbl hbA hW.2.2.1 hc703 dL_law_1239 ?_
        refine lv_aload_n hx hb dL_law_1240 rfl (lv_at hl 0 rfl) ?_
        refine lv_iload hx hb dL_law_1241 (lv_at hl 4 rfl) ?_
        refine lv_iconst (v := 2) hx hb dL_law_1243 (by decide) ?_
        refine lv_iadd hx hb dL_law_1244 ?_
        obtain ⟨hc704, hs⟩ := ww_chk hs
        refine va_sld hx hb hX hbl hbA hW.2.2.1 hc704 dL_law_1245 ?_
        refine lv_aload_n hx hb dL_law_1246 rfl (lv_at hl 0 rfl) ?_
        refine lv_iload hx hb dL_law_1247 (lv_at hl 4 rfl) ?_
        refine lv_iconst (v := 3) hx hb dL_law_1249 (by decide) ?_
        refine lv_iadd hx hb dL_law_1250 ?_
        obtain ⟨hc705, hs⟩ := ww_chk hs
        refine va_sld hx hb hX hbl hbA hW.2.2.1 hc705 dL_law_1251 ?_
        refine lv_aload_n hx hb dL_law_1252 rfl (lv_at hl 3 rfl) ?_
        obtain ⟨v708, σ709, hc706, hs⟩ := ww_bn2 hs
        have hp710 : pr σ 1 0 := (pr_st (hW.rd hgm) (Nat.le_of_ble_eq_true rfl))
        have hp711 : pr σ 109 0 := (pr_st (hW.rd hgm) (Nat.le_of_ble_eq_true rfl))
        obtain ⟨hc712, hs⟩ := ww_chk hs
        have hp713 : pr σ 100 0 := (pr_dy hc712 rfl rfl)
        obtain ⟨hc714, hs⟩ := ww_chk hs
        obtain ⟨hs, hck⟩ := ww_ck2 hs
        have hrm1 := le2_ (hcs.roomC hc714 hck) hRc
        refine wa_ci (vx_runSW (As := [.ref (L 1 0), .int (xs (x4 + (1 : Int32)).toNatClampNeg), .int (xs (x4 + (2 : Int32)).toNatClampNeg), .int (xs (x4 + (3 : Int32)).toNatClampNeg), .ref (L 100 0)]) (rest := []) ⟨hx, hb, hml, hown, hts⟩ (c_X0_pushed g hgm l L σ (xs (x4 + (1 : Int32)).toNatClampNeg) (xs (x4 + (2 : Int32)).toNatClampNeg) (xs (x4 + (3 : Int32)).toNatClampNeg) hst _ _ hc706) (vx_cwSW 5 hts (lw_SW q1227 q1228 q110 q1229) rfl rfl rfl hd_X0_pushed.2 ⟨(Nat.le_of_ble_eq_true rfl), (Nat.le_of_ble_eq_true rfl)⟩) (ww_preS hW) rfl rfl hl.1 rfl (lv_room (Nat.le_of_ble_eq_true rfl)) dL_law_1253 hrm1) hW (fun H locs L hx1 hW => ?_)
        have hc715 : 0 < gN_ σ709 100 := Nat.lt_of_lt_of_le hc712 (hx1.2.1 100)
        have hcs := hcs.call hc714
        have hrm := hrm1
        have hl : lv_has ls 7 [(0, .ref b), (1, .ref (L 1 0)), (2, .ref (L 109 0)), (3, .ref (L 100 0)), (4, .int x4)] := by rw [hx1.at hp710 (by decide), hx1.at hp711 (by decide), hx1.at hp713 (by decide)]; exact hl
        have hx0 := hx0.trans hx1
        refine lv_istore (lv' := [(5, .int v708), (0, .ref b), (1, .ref (L 1 0)), (2, .ref (L 109 0)), (3, .ref (L 100 0)), (4, .int x4)]) hx hb dL_law_1256 hl (by decide) rfl (fun ls hl => ?_)
        refine lv_aload_n hx hb dL_law_1258 rfl (lv_at hl 3 rfl) ?_
        refine lv_aload_n hx hb dL_law_1259 rfl (lv_at hl 1 rfl) ?_
        refine lv_iload hx hb dL_law_1260 (lv_at hl 5 rfl) ?_
        refine lv_iconst (v := 1) hx hb dL_law_1262 (by decide) ?_
        refine lv_iadd hx hb dL_law_1263 ?_
        refine va_sld hx hb hX hbl hbA hW.2.2.1 hc703 dL_law_1264 ?_
        refine lv_aload_n hx hb dL_law_1265 rfl (lv_at hl 1 rfl) ?_
        refine lv_iload hx hb dL_law_1266 (lv_at hl 5 rfl) ?_
        refine lv_iconst (v := 2) hx hb dL_law_1268 (by decide) ?_
        refine lv_iadd hx hb dL_law_1269 ?_
        refine va_sld hx hb hX hbl hbA hW.2.2.1 hc704 dL_law_1270 ?_
        refine lv_aload_n hx hb dL_law_1271 rfl (lv_at hl 1 rfl) ?_
        refine lv_iload hx hb dL_law_1272 (lv_at hl 5 rfl) ?_
        refine lv_iconst (v := 3) hx hb dL_law_1274 (by decide) ?_
        refine lv_iadd hx hb dL_law_1275 ?_
        refine va_sld hx hb hX hbl hbA hW.2.2.1 hc705 dL_law_1276 ?_
        obtain ⟨v718, σ719, hc716, hs⟩ := ww_bn2 hs
        obtain ⟨hkp, hs⟩ := ww_pif hs
        obtain ⟨hx0, hcs⟩ := lx_s hx0 hcs hkp
        refine ww_ci (va_runV (As := [.int (xs (x4 + (1 : Int32)).toNatClampNeg), .int (xs (x4 + (2 : Int32)).toNatClampNeg), .int (xs (x4 + (3 : Int32)).toNatClampNeg)]) (rest := []) ⟨hx, hb, hml, hown, hts⟩ (c_X10_pushed g hgm l L σ709 (xs (x4 + (1 : Int32)).toNatClampNeg) (xs (x4 + (2 : Int32)).toNatClampNeg) (xs (x4 + (3 : Int32)).toNatClampNeg) _ _ hc716) (cwV 3 hts (lw_V q2244 q2245 q2246 q123 q2247) rfl rfl rfl hd_X10_pushed ⟨(Nat.le_of_ble_eq_true rfl), (Nat.le_of_ble_eq_true rfl)⟩) (ww_preV hW (pr_st (hW.rd hgm) (Nat.le_of_ble_eq_true rfl)) (obv_0 rfl) rfl) rfl rfl hl.1 rfl (lv_room (Nat.le_of_ble_eq_true rfl)) dL_law_1277 hrm) hW (fun H locs hW => ?_)
        have hc720 : 0 < gN_ σ719 100 := by rw [hkp.1]; exact hc715
        refine lv_istore (lv' := [(6, .int v718), (5, .int v708), (0, .ref b), (1, .ref (L 1 0)), (2, .ref (L 109 0)), (3, .ref (L 100 0)), (4, .int x4)]) hx hb dL_law_1280 hl (by decide) rfl (fun ls hl => ?_)
        refine lv_aload_n hx hb dL_law_1282 rfl (lv_at hl 4 rfl) ?_
        obtain ⟨v723, hc721, hs⟩ := ww_bnd hs
        refine ww_ci (va_runV (As := []) (rest := []) ⟨hx, hb, hml, hown, hts⟩ (c_X10_thrown g hgm l L σ719  _ hc721) (cwV 0 hts (lw_V q1671 q1672 q1673 q123 q1674) rfl rfl rfl hd_X10_thrown ⟨(Nat.le_of_ble_eq_true rfl), (Nat.le_of_ble_eq_true rfl)⟩) (ww_preV hW (pr_st (hW.rd hgm) (Nat.le_of_ble_eq_true rfl)) (obv_0 rfl) rfl) rfl rfl hl.1 rfl (lv_room (Nat.le_of_ble_eq_true rfl)) dL_law_1283 hrm) hW (fun H locs hW => ?_)
        refine lv_iload hx hb dL_law_1286 (lv_at hl 1 rfl) ?_
        refine lv_icmp_eq (tgt := 1293) hx hb dL_law_1288 (by decide) (fun hc724 => ?_) (fun hc724 => ?_)
        · have hs := ww_T hs hc724
          refine lv_iload hx hb dL_law_1293 (lv_at hl 1 rfl) ?_
          refine lv_if_ne (tgt := 1310) hx hb dL_law_1295 (by decide) (fun hc725 => ?_) (fun hc725 => ?_)
          · have hs := ww_F hs hc725
            exact hL1310 L σ719 x4 _ _ _ _ ls hx0 hcs hrm hW (lv_sub hl [2, 3, 4, 5, 6] rfl) hs
          · have hs := ww_T hs hc725
            refine lv_aload_n hx hb dL_law_1298 rfl (lv_at hl 5 rfl) ?_
            refine lv_iconst (v := 0) hx hb dL_law_1299 (by decide) ?_
            refine ww_lald hx hb hW (pr_dy hc720 rfl rfl) (j := (0 : Int32)) (vin_lit rfl) dL_law_1300 ?_
            refine lv_iload hx hb dL_law_1301 (lv_at hl 0 rfl) ?_
            refine lv_i2l hx hb dL_law_1303 rfl ?_
            refine W.lcmp hx hb dL_law_1304 ?_
            refine lv_if_eq (tgt := 1310) hx hb dL_law_1305 (by decide) (fun hc726 => ?_) (fun hc726 => ?_)
            · have hs := ww_T hs hc726
              exact hL1310 L σ719 x4 _ _ _ _ ls hx0 hcs hrm hW (lv_sub hl [2, 3, 4, 5, 6] rfl) hs
            · have hs := ww_F hs hc726
              refine lv_iconst (v := 0) hx hb dL_law_1308 (by decide) ?_
              have hs := ww_S hs
              exact wl_ret hx hb hr hlocks hW hsz hrm (congrArg Prod.fst hs) hr1 dL_law_1309
        · have hs := ww_F hs hc724
          refine lv_iconst (v := 0) hx hb dL_law_1291 (by decide) ?_
          have hs := ww_S hs
          exact wl_ret hx hb hr hlocks hW hsz hrm (congrArg Prod.fst hs) hr1 dL_law_1292
      have hL1165 : ∀ (L : ly_T) (σ : st_T) (x4 : Int32) (H : Heap) (locs : List Loc) (cells slots : Nat) (ls : Array Slot), lext L0 σ0 L σ → bk σ0 σ cells slots → (cells ≤ 1200384 ∧ slots ≤ 5487786) → wv g L σ s H locs → lv_has ls 7 [(0, .ref b), (1, .ref (L 1 0)), (2, .ref (L 109 0)), (3, .ref (L 100 0)), (4, .int x4)] → (m_L_law_L1165 N xs (m_L_law_L3445 N xs (m_L_law_L23 N xs n23))) σ x4 = some (r_, σ_) → W p l e (room_1) s m #[Value.ref b] below meth c H locs cells slots (lw_Z below #[Value.ref b] s) (F0 m 1165 ls []) := by
        have hL1230 : ∀ (L : ly_T) (σ : st_T) (x4 : Int32) (H : Heap) (locs : List Loc) (cells slots : Nat) (ls : Array Slot), lext L0 σ0 L σ → bk σ0 σ cells slots → (cells ≤ 1200384 ∧ slots ≤ 5487786) → wv g L σ s H locs → lv_has ls 7 [(0, .ref b), (1, .ref (L 1 0)), (2, .ref (L 109 0)), (3, .ref (L 100 0)), (4, .int x4)] → (m_L_law_L1230 N xs (m_L_law_L3445 N xs (m_L_law_L23 N xs n23))) σ x4 = some (r_, σ_) → W p l e (room_1) s m #[Value.ref b] below meth c H locs cells slots (lw_Z below #[Value.ref b] s) (F0 m 1230 ls []) := by
          intro L σ x4 H locs cells slots ls hx0 hcs hrm hW hl hs
          unfold m_L_law_L1230 at hs
          refine lv_goto (tgt := 3445) hx hb dL_law_1230 (by decide) ?_
          exact hL3445 L σ x4 _ _ _ _ ls hx0 hcs hrm hW (lv_sub hl [0, 1, 2, 3, 4] rfl) hs
        intro L σ x4 H locs cells slots ls hx0 hcs hrm hW hl hs
        unfold m_L_law_L1165 at hs
        refine lv_aload_n hx hb dL_law_1165 rfl (lv_at hl 1 rfl) ?_
        refine lv_aload_n hx hb dL_law_1166 rfl (lv_at hl 0 rfl) ?_
        refine lv_iload hx hb dL_law_1167 (lv_at hl 4 rfl) ?_
        refine lv_iconst (v := 1) hx hb dL_law_1169 (by decide) ?_
        refine lv_iadd hx hb dL_law_1170 ?_
        obtain ⟨hc727, hs⟩ := ww_chk hs
        refine va_sld hx hb hX hbl hbA hW.2.2.1 hc727 dL_law_1171 ?_
        refine lv_aload_n hx hb dL_law_1172 rfl (lv_at hl 0 rfl) ?_
        refine lv_iload hx hb dL_law_1173 (lv_at hl 4 rfl) ?_
        refine lv_iconst (v := 2) hx hb dL_law_1175 (by decide) ?_
        refine lv_iadd hx hb dL_law_1176 ?_
        obtain ⟨hc728, hs⟩ := ww_chk hs
        refine va_sld hx hb hX hbl hbA hW.2.2.1 hc728 dL_law_1177 ?_
        refine lv_aload_n hx hb dL_law_1178 rfl (lv_at hl 3 rfl) ?_
        obtain ⟨v731, σ732, hc729, hs⟩ := ww_bn2 hs
        have hp733 : pr σ 1 0 := (pr_st (hW.rd hgm) (Nat.le_of_ble_eq_true rfl))
        have hp734 : pr σ 109 0 := (pr_st (hW.rd hgm) (Nat.le_of_ble_eq_true rfl))
        obtain ⟨hc735, hs⟩ := ww_chk hs
        have hp736 : pr σ 100 0 := (pr_dy hc735 rfl rfl)
        obtain ⟨hc737, hs⟩ := ww_chk hs
        obtain ⟨hs, hck⟩ := ww_ck2 hs
        have hrm1 := le2_ (hcs.roomC hc737 hck) hRc
        refine wa_ci (vx_runSW (As := [.ref (L 1 0), .int (xs (x4 + (1 : Int32)).toNatClampNeg), .int (xs (x4 + (2 : Int32)).toNatClampNeg), .ref (L 100 0)]) (rest := []) ⟨hx, hb, hml, hown, hts⟩ (c_X0_foretold g hgm l L σ (xs (x4 + (1 : Int32)).toNatClampNeg) (xs (x4 + (2 : Int32)).toNatClampNeg) hst _ _ hc729) (vx_cwSW 4 hts (lw_SW q1217 q1218 q110 q1219) rfl rfl rfl hd_X0_foretold.2 ⟨(Nat.le_of_ble_eq_true rfl), (Nat.le_of_ble_eq_true rfl)⟩) (ww_preS hW) rfl rfl hl.1 rfl (lv_room (Nat.le_of_ble_eq_true rfl)) dL_law_1179 hrm1) hW (fun H locs L hx1 hW => ?_)
        have hc738 : 0 < gN_ σ732 100 := Nat.lt_of_lt_of_le hc735 (hx1.2.1 100)
        have hcs := hcs.call hc737
        have hrm := hrm1
        have hl : lv_has ls 7 [(0, .ref b), (1, .ref (L 1 0)), (2, .ref (L 109 0)), (3, .ref (L 100 0)), (4, .int x4)] := by rw [hx1.at hp733 (by decide), hx1.at hp734 (by decide), hx1.at hp736 (by decide)]; exact hl
        have hx0 := hx0.trans hx1
        refine lv_istore (lv' := [(5, .int v731), (0, .ref b), (1, .ref (L 1 0)), (2, .ref (L 109 0)), (3, .ref (L 100 0)), (4, .int x4)]) hx hb dL_law_1182 hl (by decide) rfl (fun ls hl => ?_)
        refine lv_aload_n hx hb dL_law_1184 rfl (lv_at hl 3 rfl) ?_
        refine lv_aload_n hx hb dL_law_1185 rfl (lv_at hl 1 rfl) ?_
        refine lv_iload hx hb dL_law_1186 (lv_at hl 5 rfl) ?_
        refine lv_iconst (v := 1) hx hb dL_law_1188 (by decide) ?_
        refine lv_iadd hx hb dL_law_1189 ?_
        refine va_sld hx hb hX hbl hbA hW.2.2.1 hc727 dL_law_1190 ?_
        refine lv_aload_n hx hb dL_law_1191 rfl (lv_at hl 1 rfl) ?_
        refine lv_iload hx hb dL_law_1192 (lv_at hl 5 rfl) ?_
        refine lv_iconst (v := 2) hx hb dL_law_1194 (by decide) ?_
        refine lv_iadd hx hb dL_law_1195 ?_
        refine va_sld hx hb hX hbl hbA hW.2.2.1 hc728 dL_law_1196 ?_
        obtain ⟨v741, σ742, hc739, hs⟩ := ww_bn2 hs
        obtain ⟨hkp, hs⟩ := ww_pif hs
        obtain ⟨hx0, hcs⟩ := lx_s hx0 hcs hkp
        refine ww_ci (va_runV (As := [.int (xs (x4 + (1 : Int32)).toNatClampNeg), .int (xs (x4 + (2 : Int32)).toNatClampNeg)]) (rest := []) ⟨hx, hb, hml, hown, hts⟩ (c_X10_foretold g hgm l L σ732 (xs (x4 + (1 : Int32)).toNatClampNeg) (xs (x4 + (2 : Int32)).toNatClampNeg) _ _ hc739) (cwV 2 hts (lw_V q2213 q2214 q2215 q123 q2216) rfl rfl rfl hd_X10_foretold ⟨(Nat.le_of_ble_eq_true rfl), (Nat.le_of_ble_eq_true rfl)⟩) (ww_preV hW (pr_st (hW.rd hgm) (Nat.le_of_ble_eq_true rfl)) (obv_0 rfl) rfl) rfl rfl hl.1 rfl (lv_room (Nat.le_of_ble_eq_true rfl)) dL_law_1197 hrm) hW (fun H locs hW => ?_)
        have hc743 : 0 < gN_ σ742 100 := by rw [hkp.1]; exact hc738
        refine lv_istore (lv' := [(6, .int v741), (5, .int v731), (0, .ref b), (1, .ref (L 1 0)), (2, .ref (L 109 0)), (3, .ref (L 100 0)), (4, .int x4)]) hx hb dL_law_1200 hl (by decide) rfl (fun ls hl => ?_)
        refine lv_aload_n hx hb dL_law_1202 rfl (lv_at hl 4 rfl) ?_
        obtain ⟨v746, hc744, hs⟩ := ww_bnd hs
        refine ww_ci (va_runV (As := []) (rest := []) ⟨hx, hb, hml, hown, hts⟩ (c_X10_thrown g hgm l L σ742  _ hc744) (cwV 0 hts (lw_V q1671 q1672 q1673 q123 q1674) rfl rfl rfl hd_X10_thrown ⟨(Nat.le_of_ble_eq_true rfl), (Nat.le_of_ble_eq_true rfl)⟩) (ww_preV hW (pr_st (hW.rd hgm) (Nat.le_of_ble_eq_true rfl)) (obv_0 rfl) rfl) rfl rfl hl.1 rfl (lv_room (Nat.le_of_ble_eq_true rfl)) dL_law_1203 hrm) hW (fun H locs hW => ?_)
        refine lv_iload hx hb dL_law_1206 (lv_at hl 1 rfl) ?_
        refine lv_icmp_eq (tgt := 1213) hx hb dL_law_1208 (by decide) (fun hc747 => ?_) (fun hc747 => ?_)
        · have hs := ww_T hs hc747
          refine lv_iload hx hb dL_law_1213 (lv_at hl 1 rfl) ?_
          refine lv_if_ne (tgt := 1230) hx hb dL_law_1215 (by decide) (fun hc748 => ?_) (fun hc748 => ?_)
          · have hs := ww_F hs hc748
            exact hL1230 L σ742 x4 _ _ _ _ ls hx0 hcs hrm hW (lv_sub hl [2, 3, 4, 5, 6] rfl) hs
          · have hs := ww_T hs hc748
            refine lv_aload_n hx hb dL_law_1218 rfl (lv_at hl 5 rfl) ?_
            refine lv_iconst (v := 0) hx hb dL_law_1219 (by decide) ?_
            refine ww_lald hx hb hW (pr_dy hc743 rfl rfl) (j := (0 : Int32)) (vin_lit rfl) dL_law_1220 ?_
            refine lv_iload hx hb dL_law_1221 (lv_at hl 0 rfl) ?_
            refine lv_i2l hx hb dL_law_1223 rfl ?_
            refine W.lcmp hx hb dL_law_1224 ?_
            refine lv_if_eq (tgt := 1230) hx hb dL_law_1225 (by decide) (fun hc749 => ?_) (fun hc749 => ?_)
            · have hs := ww_T hs hc749
              exact hL1230 L σ742 x4 _ _ _ _ ls hx0 hcs hrm hW (lv_sub hl [2, 3, 4, 5, 6] rfl) hs
            · have hs := ww_F hs hc749
              refine lv_iconst (v := 0) hx hb dL_law_1228 (by decide) ?_
              have hs := ww_S hs
              exact wl_ret hx hb hr hlocks hW hsz hrm (congrArg Prod.fst hs) hr1 dL_law_1229
        · have hs := ww_F hs hc747
          refine lv_iconst (v := 0) hx hb dL_law_1211 (by decide) ?_
          have hs := ww_S hs
          exact wl_ret hx hb hr hlocks hW hsz hrm (congrArg Prod.fst hs) hr1 dL_law_1212
      have hL1085 : ∀ (L : ly_T) (σ : st_T) (x4 : Int32) (H : Heap) (locs : List Loc) (cells slots : Nat) (ls : Array Slot), lext L0 σ0 L σ → bk σ0 σ cells slots → (cells ≤ 1200384 ∧ slots ≤ 5487786) → wv g L σ s H locs → lv_has ls 7 [(0, .ref b), (1, .ref (L 1 0)), (2, .ref (L 109 0)), (3, .ref (L 100 0)), (4, .int x4)] → (m_L_law_L1085 N xs (m_L_law_L3445 N xs (m_L_law_L23 N xs n23))) σ x4 = some (r_, σ_) → W p l e (room_1) s m #[Value.ref b] below meth c H locs cells slots (lw_Z below #[Value.ref b] s) (F0 m 1085 ls []) := by
        have hL1162 : ∀ (L : ly_T) (σ : st_T) (x4 : Int32) (H : Heap) (locs : List Loc) (cells slots : Nat) (ls : Array Slot), lext L0 σ0 L σ → bk σ0 σ cells slots → (cells ≤ 1200384 ∧ slots ≤ 5487786) → wv g L σ s H locs → lv_has ls 7 [(0, .ref b), (1, .ref (L 1 0)), (2, .ref (L 109 0)), (3, .ref (L 100 0)), (4, .int x4)] → (m_L_law_L1162 N xs (m_L_law_L3445 N xs (m_L_law_L23 N xs n23))) σ x4 = some (r_, σ_) → W p l e (room_1) s m #[Value.ref b] below meth c H locs cells slots (lw_Z below #[Value.ref b] s) (F0 m 1162 ls []) := by
          intro L σ x4 H locs cells slots ls hx0 hcs hrm hW hl hs
          unfold m_L_law_L1162 at hs
          refine lv_goto (tgt := 3445) hx hb dL_law_1162 (by decide) ?_
          exact hL3445 L σ x4 _ _ _ _ ls hx0 hcs hrm hW (lv_sub hl [0, 1, 2, 3, 4] rfl) hs
        intro L σ x4 H locs cells slots ls hx0 hcs hrm hW hl hs
        unfold m_L_law_L1085 at hs
        refine lv_aload_n hx hb dL_law_1085 rfl (lv_at hl 1 rfl) ?_
        refine lv_aload_n hx hb dL_law_1086 rfl (lv_at hl 0 rfl) ?_
        refine lv_iload hx hb dL_law_1087 (lv_at hl 4 rfl) ?_
        refine lv_iconst (v := 1) hx hb dL_law_1089 (by decide) ?_
        refine lv_iadd hx hb dL_law_1090 ?_
        obtain ⟨hc750, hs⟩ := ww_chk hs
        refine va_sld hx hb hX hbl hbA hW.2.2.1 hc750 dL_law_1091 ?_
        refine lv_aload_n hx hb dL_law_1092 rfl (lv_at hl 0 rfl) ?_
        refine lv_iload hx hb dL_law_1093 (lv_at hl 4 rfl) ?_
        refine lv_iconst (v := 2) hx hb dL_law_1095 (by decide) ?_
        refine lv_iadd hx hb dL_law_1096 ?_
        obtain ⟨hc751, hs⟩ := ww_chk hs
        refine va_sld hx hb hX hbl hbA hW.2.2.1 hc751 dL_law_1097 ?_
        refine lv_aload_n hx hb dL_law_1098 rfl (lv_at hl 0 rfl) ?_
        refine lv_iload hx hb dL_law_1099 (lv_at hl 4 rfl) ?_
        refine lv_iconst (v := 3) hx hb dL_law_1101 (by decide) ?_
        refine lv_iadd hx hb dL_law_1102 ?_
        obtain ⟨hc752, hs⟩ := ww_chk hs
        refine va_sld hx hb hX hbl hbA hW.2.2.1 hc752 dL_law_1103 ?_
        refine lv_aload_n hx hb dL_law_1104 rfl (lv_at hl 3 rfl) ?_
        obtain ⟨v755, σ756, hc753, hs⟩ := ww_bn2 hs
        have hp757 : pr σ 1 0 := (pr_st (hW.rd hgm) (Nat.le_of_ble_eq_true rfl))
        have hp758 : pr σ 109 0 := (pr_st (hW.rd hgm) (Nat.le_of_ble_eq_true rfl))
        obtain ⟨hc759, hs⟩ := ww_chk hs
        have hp760 : pr σ 100 0 := (pr_dy hc759 rfl rfl)
        obtain ⟨hc761, hs⟩ := ww_chk hs
        obtain ⟨hs, hck⟩ := ww_ck2 hs
        have hrm1 := le2_ (hcs.roomC hc761 hck) hRc
        refine wa_ci (vx_runSW (As := [.ref (L 1 0), .int (xs (x4 + (1 : Int32)).toNatClampNeg), .int (xs (x4 + (2 : Int32)).toNatClampNeg), .int (xs (x4 + (3 : Int32)).toNatClampNeg), .ref (L 100 0)]) (rest := []) ⟨hx, hb, hml, hown, hts⟩ (c_X0_way g hgm l L σ (xs (x4 + (1 : Int32)).toNatClampNeg) (xs (x4 + (2 : Int32)).toNatClampNeg) (xs (x4 + (3 : Int32)).toNatClampNeg) hst _ _ hc753) (vx_cwSW 5 hts (lw_SW q1210 q1211 q110 q1212) rfl rfl rfl hd_X0_way.2 ⟨(Nat.le_of_ble_eq_true rfl), (Nat.le_of_ble_eq_true rfl)⟩) (ww_preS hW) rfl rfl hl.1 rfl (lv_room (Nat.le_of_ble_eq_true rfl)) dL_law_1105 hrm1) hW (fun H locs L hx1 hW => ?_)
        have hc762 : 0 < gN_ σ756 100 := Nat.lt_of_lt_of_le hc759 (hx1.2.1 100)
        have hcs := hcs.call hc761
        have hrm := hrm1
        have hl : lv_has ls 7 [(0, .ref b), (1, .ref (L 1 0)), (2, .ref (L 109 0)), (3, .ref (L 100 0)), (4, .int x4)] := by rw [hx1.at hp757 (by decide), hx1.at hp758 (by decide), hx1.at hp760 (by decide)]; exact hl
        have hx0 := hx0.trans hx1
        refine lv_istore (lv' := [(5, .int v755), (0, .ref b), (1, .ref (L 1 0)), (2, .ref (L 109 0)), (3, .ref (L 100 0)), (4, .int x4)]) hx hb dL_law_1108 hl (by decide) rfl (fun ls hl => ?_)
        refine lv_aload_n hx hb dL_law_1110 rfl (lv_at hl 3 rfl) ?_
        refine lv_aload_n hx hb dL_law_1111 rfl (lv_at hl 1 rfl) ?_
        refine lv_iload hx hb dL_law_1112 (lv_at hl 5 rfl) ?_
        refine lv_iconst (v := 1) hx hb dL_law_1114 (by decide) ?_
        refine lv_iadd hx hb dL_law_1115 ?_
        refine va_sld hx hb hX hbl hbA hW.2.2.1 hc750 dL_law_1116 ?_
        refine lv_aload_n hx hb dL_law_1117 rfl (lv_at hl 1 rfl) ?_
        refine lv_iload hx hb dL_law_1118 (lv_at hl 5 rfl) ?_
        refine lv_iconst (v := 2) hx hb dL_law_1120 (by decide) ?_
        refine lv_iadd hx hb dL_law_1121 ?_
        refine va_sld hx hb hX hbl hbA hW.2.2.1 hc751 dL_law_1122 ?_
        refine lv_aload_n hx hb dL_law_1123 rfl (lv_at hl 1 rfl) ?_
        refine lv_iload hx hb dL_law_1124 (lv_at hl 5 rfl) ?_
        refine lv_iconst (v := 3) hx hb dL_law_1126 (by decide) ?_
        refine lv_iadd hx hb dL_law_1127 ?_
        refine va_sld hx hb hX hbl hbA hW.2.2.1 hc752 dL_law_1128 ?_
        obtain ⟨v765, σ766, hc763, hs⟩ := ww_bn2 hs
        obtain ⟨hkp, hs⟩ := ww_pif hs
        obtain ⟨hx0, hcs⟩ := lx_s hx0 hcs hkp
        refine ww_ci (va_runV (As := [.int (xs (x4 + (1 : Int32)).toNatClampNeg), .int (xs (x4 + (2 : Int32)).toNatClampNeg), .int (xs (x4 + (3 : Int32)).toNatClampNeg)]) (rest := []) ⟨hx, hb, hml, hown, hts⟩ (c_X10_way g hgm l L σ756 (xs (x4 + (1 : Int32)).toNatClampNeg) (xs (x4 + (2 : Int32)).toNatClampNeg) (xs (x4 + (3 : Int32)).toNatClampNeg) _ _ hc763) (cwV 3 hts (lw_V q2201 q2202 q2203 q123 q2204) rfl rfl rfl hd_X10_way ⟨(Nat.le_of_ble_eq_true rfl), (Nat.le_of_ble_eq_true rfl)⟩) (ww_preV hW (pr_st (hW.rd hgm) (Nat.le_of_ble_eq_true rfl)) (obv_0 rfl) rfl) rfl rfl hl.1 rfl (lv_room (Nat.le_of_ble_eq_true rfl)) dL_law_1129 hrm) hW (fun H locs hW => ?_)
        have hc767 : 0 < gN_ σ766 100 := by rw [hkp.1]; exact hc762
        refine lv_istore (lv' := [(6, .int v765), (5, .int v755), (0, .ref b), (1, .ref (L 1 0)), (2, .ref (L 109 0)), (3, .ref (L 100 0)), (4, .int x4)]) hx hb dL_law_1132 hl (by decide) rfl (fun ls hl => ?_)
        refine lv_aload_n hx hb dL_law_1134 rfl (lv_at hl 4 rfl) ?_
        obtain ⟨v770, hc768, hs⟩ := ww_bnd hs
        refine ww_ci (va_runV (As := []) (rest := []) ⟨hx, hb, hml, hown, hts⟩ (c_X10_thrown g hgm l L σ766  _ hc768) (cwV 0 hts (lw_V q1671 q1672 q1673 q123 q1674) rfl rfl rfl hd_X10_thrown ⟨(Nat.le_of_ble_eq_true rfl), (Nat.le_of_ble_eq_true rfl)⟩) (ww_preV hW (pr_st (hW.rd hgm) (Nat.le_of_ble_eq_true rfl)) (obv_0 rfl) rfl) rfl rfl hl.1 rfl (lv_room (Nat.le_of_ble_eq_true rfl)) dL_law_1135 hrm) hW (fun H locs hW => ?_)
        refine lv_iload hx hb dL_law_1138 (lv_at hl 1 rfl) ?_
        refine lv_icmp_eq (tgt := 1145) hx hb dL_law_1140 (by decide) (fun hc771 => ?_) (fun hc771 => ?_)
        · have hs := ww_T hs hc771
          refine lv_iload hx hb dL_law_1145 (lv_at hl 1 rfl) ?_
          refine lv_if_ne (tgt := 1162) hx hb dL_law_1147 (by decide) (fun hc772 => ?_) (fun hc772 => ?_)
          · have hs := ww_F hs hc772
            exact hL1162 L σ766 x4 _ _ _ _ ls hx0 hcs hrm hW (lv_sub hl [2, 3, 4, 5, 6] rfl) hs
          · have hs := ww_T hs hc772
            refine lv_aload_n hx hb dL_law_1150 rfl (lv_at hl 5 rfl) ?_
            refine lv_iconst (v := 0) hx hb dL_law_1151 (by decide) ?_
            refine ww_lald hx hb hW (pr_dy hc767 rfl rfl) (j := (0 : Int32)) (vin_lit rfl) dL_law_1152 ?_
            refine lv_iload hx hb dL_law_1153 (lv_at hl 0 rfl) ?_
            refine lv_i2l hx hb dL_law_1155 rfl ?_
            refine W.lcmp hx hb dL_law_1156 ?_
            refine lv_if_eq (tgt := 1162) hx hb dL_law_1157 (by decide) (fun hc773 => ?_) (fun hc773 => ?_)
            · have hs := ww_T hs hc773
              exact hL1162 L σ766 x4 _ _ _ _ ls hx0 hcs hrm hW (lv_sub hl [2, 3, 4, 5, 6] rfl) hs
            · have hs := ww_F hs hc773
              refine lv_iconst (v := 0) hx hb dL_law_1160 (by decide) ?_
              have hs := ww_S hs
              exact wl_ret hx hb hr hlocks hW hsz hrm (congrArg Prod.fst hs) hr1 dL_law_1161
        · have hs := ww_F hs hc771
          refine lv_iconst (v := 0) hx hb dL_law_1143 (by decide) ?_
          have hs := ww_S hs
          exact wl_ret hx hb hr hlocks hW hsz hrm (congrArg Prod.fst hs) hr1 dL_law_1144
      have hL1017 : ∀ (L : ly_T) (σ : st_T) (x4 : Int32) (H : Heap) (locs : List Loc) (cells slots : Nat) (ls : Array Slot), lext L0 σ0 L σ → bk σ0 σ cells slots → (cells ≤ 1200384 ∧ slots ≤ 5487786) → wv g L σ s H locs → lv_has ls 7 [(0, .ref b), (1, .ref (L 1 0)), (2, .ref (L 109 0)), (3, .ref (L 100 0)), (4, .int x4)] → (m_L_law_L1017 N xs (m_L_law_L3445 N xs (m_L_law_L23 N xs n23))) σ x4 = some (r_, σ_) → W p l e (room_1) s m #[Value.ref b] below meth c H locs cells slots (lw_Z below #[Value.ref b] s) (F0 m 1017 ls []) := by
        have hL1082 : ∀ (L : ly_T) (σ : st_T) (x4 : Int32) (H : Heap) (locs : List Loc) (cells slots : Nat) (ls : Array Slot), lext L0 σ0 L σ → bk σ0 σ cells slots → (cells ≤ 1200384 ∧ slots ≤ 5487786) → wv g L σ s H locs → lv_has ls 7 [(0, .ref b), (1, .ref (L 1 0)), (2, .ref (L 109 0)), (3, .ref (L 100 0)), (4, .int x4)] → (m_L_law_L1082 N xs (m_L_law_L3445 N xs (m_L_law_L23 N xs n23))) σ x4 = some (r_, σ_) → W p l e (room_1) s m #[Value.ref b] below meth c H locs cells slots (lw_Z below #[Value.ref b] s) (F0 m 1082 ls []) := by
          intro L σ x4 H locs cells slots ls hx0 hcs hrm hW hl hs
          unfold m_L_law_L1082 at hs
          refine lv_goto (tgt := 3445) hx hb dL_law_1082 (by decide) ?_
          exact hL3445 L σ x4 _ _ _ _ ls hx0 hcs hrm hW (lv_sub hl [0, 1, 2, 3, 4] rfl) hs
        intro L σ x4 H locs cells slots ls hx0 hcs hrm hW hl hs
        unfold m_L_law_L1017 at hs
        refine lv_aload_n hx hb dL_law_1017 rfl (lv_at hl 1 rfl) ?_
        refine lv_aload_n hx hb dL_law_1018 rfl (lv_at hl 0 rfl) ?_
        refine lv_iload hx hb dL_law_1019 (lv_at hl 4 rfl) ?_
        refine lv_iconst (v := 1) hx hb dL_law_1021 (by decide) ?_
        refine lv_iadd hx hb dL_law_1022 ?_
        obtain ⟨hc774, hs⟩ := ww_chk hs
        refine va_sld hx hb hX hbl hbA hW.2.2.1 hc774 dL_law_1023 ?_
        refine lv_aload_n hx hb dL_law_1024 rfl (lv_at hl 0 rfl) ?_
        refine lv_iload hx hb dL_law_1025 (lv_at hl 4 rfl) ?_
        refine lv_iconst (v := 2) hx hb dL_law_1027 (by decide) ?_
        refine lv_iadd hx hb dL_law_1028 ?_
        obtain ⟨hc775, hs⟩ := ww_chk hs
        refine va_sld hx hb hX hbl hbA hW.2.2.1 hc775 dL_law_1029 ?_
        refine lv_aload_n hx hb dL_law_1030 rfl (lv_at hl 3 rfl) ?_
        obtain ⟨v778, σ779, hc776, hs⟩ := ww_bn2 hs
        have hp780 : pr σ 1 0 := (pr_st (hW.rd hgm) (Nat.le_of_ble_eq_true rfl))
        have hp781 : pr σ 109 0 := (pr_st (hW.rd hgm) (Nat.le_of_ble_eq_true rfl))
        obtain ⟨hc782, hs⟩ := ww_chk hs
        have hp783 : pr σ 100 0 := (pr_dy hc782 rfl rfl)
        obtain ⟨hc784, hs⟩ := ww_chk hs
        obtain ⟨hs, hck⟩ := ww_ck2 hs
        have hrm1 := le2_ (hcs.roomC hc784 hck) hRc
        refine wa_ci (vx_runSW (As := [.ref (L 1 0), .int (xs (x4 + (1 : Int32)).toNatClampNeg), .int (xs (x4 + (2 : Int32)).toNatClampNeg), .ref (L 100 0)]) (rest := []) ⟨hx, hb, hml, hown, hts⟩ (c_X0_cost g hgm l L σ (xs (x4 + (1 : Int32)).toNatClampNeg) (xs (x4 + (2 : Int32)).toNatClampNeg) hst _ _ hc776) (vx_cwSW 4 hts (lw_SW q1183 q1184 q110 q1185) rfl rfl rfl hd_X0_cost.2 ⟨(Nat.le_of_ble_eq_true rfl), (Nat.le_of_ble_eq_true rfl)⟩) (ww_preS hW) rfl rfl hl.1 rfl (lv_room (Nat.le_of_ble_eq_true rfl)) dL_law_1031 hrm1) hW (fun H locs L hx1 hW => ?_)
        have hc785 : 0 < gN_ σ779 100 := Nat.lt_of_lt_of_le hc782 (hx1.2.1 100)
        have hcs := hcs.call hc784
        have hrm := hrm1
        have hl : lv_has ls 7 [(0, .ref b), (1, .ref (L 1 0)), (2, .ref (L 109 0)), (3, .ref (L 100 0)), (4, .int x4)] := by rw [hx1.at hp780 (by decide), hx1.at hp781 (by decide), hx1.at hp783 (by decide)]; exact hl
        have hx0 := hx0.trans hx1
        refine lv_istore (lv' := [(5, .int v778), (0, .ref b), (1, .ref (L 1 0)), (2, .ref (L 109 0)), (3, .ref (L 100 0)), (4, .int x4)]) hx hb dL_law_1034 hl (by decide) rfl (fun ls hl => ?_)
        refine lv_aload_n hx hb dL_law_1036 rfl (lv_at hl 3 rfl) ?_
        refine lv_aload_n hx hb dL_law_1037 rfl (lv_at hl 1 rfl) ?_
        refine lv_iload hx hb dL_law_1038 (lv_at hl 5 rfl) ?_
        refine lv_iconst (v := 1) hx hb dL_law_1040 (by decide) ?_
        refine lv_iadd hx hb dL_law_1041 ?_
        refine va_sld hx hb hX hbl hbA hW.2.2.1 hc774 dL_law_1042 ?_
        refine lv_aload_n hx hb dL_law_1043 rfl (lv_at hl 1 rfl) ?_
        refine lv_iload hx hb dL_law_1044 (lv_at hl 5 rfl) ?_
        refine lv_iconst (v := 2) hx hb dL_law_1046 (by decide) ?_
        refine lv_iadd hx hb dL_law_1047 ?_
        refine va_sld hx hb hX hbl hbA hW.2.2.1 hc775 dL_law_1048 ?_
        obtain ⟨v788, σ789, hc786, hs⟩ := ww_bn2 hs
        obtain ⟨hkp, hs⟩ := ww_pif hs
        obtain ⟨hx0, hcs⟩ := lx_s hx0 hcs hkp
        refine ww_ci (va_runV (As := [.int (xs (x4 + (1 : Int32)).toNatClampNeg), .int (xs (x4 + (2 : Int32)).toNatClampNeg)]) (rest := []) ⟨hx, hb, hml, hown, hts⟩ (c_X10_cost g hgm l L σ779 (xs (x4 + (1 : Int32)).toNatClampNeg) (xs (x4 + (2 : Int32)).toNatClampNeg) _ _ hc786) (cwV 2 hts (lw_V q2177 q2178 q2179 q123 q2180) rfl rfl rfl hd_X10_cost ⟨(Nat.le_of_ble_eq_true rfl), (Nat.le_of_ble_eq_true rfl)⟩) (ww_preV hW (pr_st (hW.rd hgm) (Nat.le_of_ble_eq_true rfl)) (obv_0 rfl) rfl) rfl rfl hl.1 rfl (lv_room (Nat.le_of_ble_eq_true rfl)) dL_law_1049 hrm) hW (fun H locs hW => ?_)
        have hc790 : 0 < gN_ σ789 100 := by rw [hkp.1]; exact hc785
        refine lv_istore (lv' := [(6, .int v788), (5, .int v778), (0, .ref b), (1, .ref (L 1 0)), (2, .ref (L 109 0)), (3, .ref (L 100 0)), (4, .int x4)]) hx hb dL_law_1052 hl (by decide) rfl (fun ls hl => ?_)
        refine lv_aload_n hx hb dL_law_1054 rfl (lv_at hl 4 rfl) ?_
        obtain ⟨v793, hc791, hs⟩ := ww_bnd hs
        refine ww_ci (va_runV (As := []) (rest := []) ⟨hx, hb, hml, hown, hts⟩ (c_X10_thrown g hgm l L σ789  _ hc791) (cwV 0 hts (lw_V q1671 q1672 q1673 q123 q1674) rfl rfl rfl hd_X10_thrown ⟨(Nat.le_of_ble_eq_true rfl), (Nat.le_of_ble_eq_true rfl)⟩) (ww_preV hW (pr_st (hW.rd hgm) (Nat.le_of_ble_eq_true rfl)) (obv_0 rfl) rfl) rfl rfl hl.1 rfl (lv_room (Nat.le_of_ble_eq_true rfl)) dL_law_1055 hrm) hW (fun H locs hW => ?_)
        refine lv_iload hx hb dL_law_1058 (lv_at hl 1 rfl) ?_
        refine lv_icmp_eq (tgt := 1065) hx hb dL_law_1060 (by decide) (fun hc794 => ?_) (fun hc794 => ?_)
        · have hs := ww_T hs hc794
          refine lv_iload hx hb dL_law_1065 (lv_at hl 1 rfl) ?_
          refine lv_if_ne (tgt := 1082) hx hb dL_law_1067 (by decide) (fun hc795 => ?_) (fun hc795 => ?_)
          · have hs := ww_F hs hc795
            exact hL1082 L σ789 x4 _ _ _ _ ls hx0 hcs hrm hW (lv_sub hl [2, 3, 4, 5, 6] rfl) hs
          · have hs := ww_T hs hc795
            refine lv_aload_n hx hb dL_law_1070 rfl (lv_at hl 5 rfl) ?_
            refine lv_iconst (v := 0) hx hb dL_law_1071 (by decide) ?_
            refine ww_lald hx hb hW (pr_dy hc790 rfl rfl) (j := (0 : Int32)) (vin_lit rfl) dL_law_1072 ?_
            refine lv_iload hx hb dL_law_1073 (lv_at hl 0 rfl) ?_
            refine lv_i2l hx hb dL_law_1075 rfl ?_
            refine W.lcmp hx hb dL_law_1076 ?_
            refine lv_if_eq (tgt := 1082) hx hb dL_law_1077 (by decide) (fun hc796 => ?_) (fun hc796 => ?_)
            · have hs := ww_T hs hc796
              exact hL1082 L σ789 x4 _ _ _ _ ls hx0 hcs hrm hW (lv_sub hl [2, 3, 4, 5, 6] rfl) hs
            · have hs := ww_F hs hc796
              refine lv_iconst (v := 0) hx hb dL_law_1080 (by decide) ?_
              have hs := ww_S hs
              exact wl_ret hx hb hr hlocks hW hsz hrm (congrArg Prod.fst hs) hr1 dL_law_1081
        · have hs := ww_F hs hc794
          refine lv_iconst (v := 0) hx hb dL_law_1063 (by decide) ?_
          have hs := ww_S hs
          exact wl_ret hx hb hr hlocks hW hsz hrm (congrArg Prod.fst hs) hr1 dL_law_1064
      have hL937 : ∀ (L : ly_T) (σ : st_T) (x4 : Int32) (H : Heap) (locs : List Loc) (cells slots : Nat) (ls : Array Slot), lext L0 σ0 L σ → bk σ0 σ cells slots → (cells ≤ 1200384 ∧ slots ≤ 5487786) → wv g L σ s H locs → lv_has ls 7 [(0, .ref b), (1, .ref (L 1 0)), (2, .ref (L 109 0)), (3, .ref (L 100 0)), (4, .int x4)] → (m_L_law_L937 N xs (m_L_law_L3445 N xs (m_L_law_L23 N xs n23))) σ x4 = some (r_, σ_) → W p l e (room_1) s m #[Value.ref b] below meth c H locs cells slots (lw_Z below #[Value.ref b] s) (F0 m 937 ls []) := by
        have hL1014 : ∀ (L : ly_T) (σ : st_T) (x4 : Int32) (H : Heap) (locs : List Loc) (cells slots : Nat) (ls : Array Slot), lext L0 σ0 L σ → bk σ0 σ cells slots → (cells ≤ 1200384 ∧ slots ≤ 5487786) → wv g L σ s H locs → lv_has ls 7 [(0, .ref b), (1, .ref (L 1 0)), (2, .ref (L 109 0)), (3, .ref (L 100 0)), (4, .int x4)] → (m_L_law_L1014 N xs (m_L_law_L3445 N xs (m_L_law_L23 N xs n23))) σ x4 = some (r_, σ_) → W p l e (room_1) s m #[Value.ref b] below meth c H locs cells slots (lw_Z below #[Value.ref b] s) (F0 m 1014 ls []) := by
          intro L σ x4 H locs cells slots ls hx0 hcs hrm hW hl hs
          unfold m_L_law_L1014 at hs
          refine lv_goto (tgt := 3445) hx hb dL_law_1014 (by decide) ?_
          exact hL3445 L σ x4 _ _ _ _ ls hx0 hcs hrm hW (lv_sub hl [0, 1, 2, 3, 4] rfl) hs
        intro L σ x4 H locs cells slots ls hx0 hcs hrm hW hl hs
        unfold m_L_law_L937 at hs
        refine lv_aload_n hx hb dL_law_937 rfl (lv_at hl 1 rfl) ?_
        refine lv_aload_n hx hb dL_law_938 rfl (lv_at hl 0 rfl) ?_
        refine lv_iload hx hb dL_law_939 (lv_at hl 4 rfl) ?_
        refine lv_iconst (v := 1) hx hb dL_law_941 (by decide) ?_
        refine lv_iadd hx hb dL_law_942 ?_
        obtain ⟨hc797, hs⟩ := ww_chk hs
        refine va_sld hx hb hX hbl hbA hW.2.2.1 hc797 dL_law_943 ?_
        refine lv_aload_n hx hb dL_law_944 rfl (lv_at hl 0 rfl) ?_
        refine lv_iload hx hb dL_law_945 (lv_at hl 4 rfl) ?_
        refine lv_iconst (v := 2) hx hb dL_law_947 (by decide) ?_
        refine lv_iadd hx hb dL_law_948 ?_
        obtain ⟨hc798, hs⟩ := ww_chk hs
        refine va_sld hx hb hX hbl hbA hW.2.2.1 hc798 dL_law_949 ?_
        refine lv_aload_n hx hb dL_law_950 rfl (lv_at hl 0 rfl) ?_
        refine lv_iload hx hb dL_law_951 (lv_at hl 4 rfl) ?_
        refine lv_iconst (v := 3) hx hb dL_law_953 (by decide) ?_
        refine lv_iadd hx hb dL_law_954 ?_
        obtain ⟨hc799, hs⟩ := ww_chk hs
        refine va_sld hx hb hX hbl hbA hW.2.2.1 hc799 dL_law_955 ?_
        refine lv_aload_n hx hb dL_law_956 rfl (lv_at hl 3 rfl) ?_
        obtain ⟨v802, σ803, hc800, hs⟩ := ww_bn2 hs
        have hp804 : pr σ 1 0 := (pr_st (hW.rd hgm) (Nat.le_of_ble_eq_true rfl))
        have hp805 : pr σ 109 0 := (pr_st (hW.rd hgm) (Nat.le_of_ble_eq_true rfl))
        obtain ⟨hc806, hs⟩ := ww_chk hs
        have hp807 : pr σ 100 0 := (pr_dy hc806 rfl rfl)
        obtain ⟨hc808, hs⟩ := ww_chk hs
        obtain ⟨hs, hck⟩ := ww_ck2 hs
        have hrm1 := le2_ (hcs.roomC hc808 hck) hRc
        refine wa_ci (vx_runSW (As := [.ref (L 1 0), .int (xs (x4 + (1 : Int32)).toNatClampNeg), .int (xs (x4 + (2 : Int32)).toNatClampNeg), .int (xs (x4 + (3 : Int32)).toNatClampNeg), .ref (L 100 0)]) (rest := []) ⟨hx, hb, hml, hown, hts⟩ (c_X0_herd g hgm l L σ (xs (x4 + (1 : Int32)).toNatClampNeg) (xs (x4 + (2 : Int32)).toNatClampNeg) (xs (x4 + (3 : Int32)).toNatClampNeg) hst _ _ hc800) (vx_cwSW 5 hts (lw_SW q1147 q1148 q110 q1149) rfl rfl rfl hd_X0_herd.2 ⟨(Nat.le_of_ble_eq_true rfl), (Nat.le_of_ble_eq_true rfl)⟩) (ww_preS hW) rfl rfl hl.1 rfl (lv_room (Nat.le_of_ble_eq_true rfl)) dL_law_957 hrm1) hW (fun H locs L hx1 hW => ?_)
        have hc809 : 0 < gN_ σ803 100 := Nat.lt_of_lt_of_le hc806 (hx1.2.1 100)
        have hcs := hcs.call hc808
        have hrm := hrm1
        have hl : lv_has ls 7 [(0, .ref b), (1, .ref (L 1 0)), (2, .ref (L 109 0)), (3, .ref (L 100 0)), (4, .int x4)] := by rw [hx1.at hp804 (by decide), hx1.at hp805 (by decide), hx1.at hp807 (by decide)]; exact hl
        have hx0 := hx0.trans hx1
        refine lv_istore (lv' := [(5, .int v802), (0, .ref b), (1, .ref (L 1 0)), (2, .ref (L 109 0)), (3, .ref (L 100 0)), (4, .int x4)]) hx hb dL_law_960 hl (by decide) rfl (fun ls hl => ?_)
        refine lv_aload_n hx hb dL_law_962 rfl (lv_at hl 3 rfl) ?_
        refine lv_aload_n hx hb dL_law_963 rfl (lv_at hl 1 rfl) ?_
        refine lv_iload hx hb dL_law_964 (lv_at hl 5 rfl) ?_
        refine lv_iconst (v := 1) hx hb dL_law_966 (by decide) ?_
        refine lv_iadd hx hb dL_law_967 ?_
        refine va_sld hx hb hX hbl hbA hW.2.2.1 hc797 dL_law_968 ?_
        refine lv_aload_n hx hb dL_law_969 rfl (lv_at hl 1 rfl) ?_
        refine lv_iload hx hb dL_law_970 (lv_at hl 5 rfl) ?_
        refine lv_iconst (v := 2) hx hb dL_law_972 (by decide) ?_
        refine lv_iadd hx hb dL_law_973 ?_
        refine va_sld hx hb hX hbl hbA hW.2.2.1 hc798 dL_law_974 ?_
        refine lv_aload_n hx hb dL_law_975 rfl (lv_at hl 1 rfl) ?_
        refine lv_iload hx hb dL_law_976 (lv_at hl 5 rfl) ?_
        refine lv_iconst (v := 3) hx hb dL_law_978 (by decide) ?_
        refine lv_iadd hx hb dL_law_979 ?_
        refine va_sld hx hb hX hbl hbA hW.2.2.1 hc799 dL_law_980 ?_
        obtain ⟨v812, σ813, hc810, hs⟩ := ww_bn2 hs
        obtain ⟨hkp, hs⟩ := ww_pif hs
        obtain ⟨hx0, hcs⟩ := lx_s hx0 hcs hkp
        refine ww_ci (va_runV (As := [.int (xs (x4 + (1 : Int32)).toNatClampNeg), .int (xs (x4 + (2 : Int32)).toNatClampNeg), .int (xs (x4 + (3 : Int32)).toNatClampNeg)]) (rest := []) ⟨hx, hb, hml, hown, hts⟩ (c_X10_herd g hgm l L σ803 (xs (x4 + (1 : Int32)).toNatClampNeg) (xs (x4 + (2 : Int32)).toNatClampNeg) (xs (x4 + (3 : Int32)).toNatClampNeg) _ _ hc810) (cwV 3 hts (lw_V q2173 q2174 q2175 q123 q2176) rfl rfl rfl hd_X10_herd ⟨(Nat.le_of_ble_eq_true rfl), (Nat.le_of_ble_eq_true rfl)⟩) (ww_preV hW (pr_st (hW.rd hgm) (Nat.le_of_ble_eq_true rfl)) (obv_0 rfl) rfl) rfl rfl hl.1 rfl (lv_room (Nat.le_of_ble_eq_true rfl)) dL_law_981 hrm) hW (fun H locs hW => ?_)
        have hc814 : 0 < gN_ σ813 100 := by rw [hkp.1]; exact hc809
        refine lv_istore (lv' := [(6, .int v812), (5, .int v802), (0, .ref b), (1, .ref (L 1 0)), (2, .ref (L 109 0)), (3, .ref (L 100 0)), (4, .int x4)]) hx hb dL_law_984 hl (by decide) rfl (fun ls hl => ?_)
        refine lv_aload_n hx hb dL_law_986 rfl (lv_at hl 4 rfl) ?_
        obtain ⟨v817, hc815, hs⟩ := ww_bnd hs
        refine ww_ci (va_runV (As := []) (rest := []) ⟨hx, hb, hml, hown, hts⟩ (c_X10_thrown g hgm l L σ813  _ hc815) (cwV 0 hts (lw_V q1671 q1672 q1673 q123 q1674) rfl rfl rfl hd_X10_thrown ⟨(Nat.le_of_ble_eq_true rfl), (Nat.le_of_ble_eq_true rfl)⟩) (ww_preV hW (pr_st (hW.rd hgm) (Nat.le_of_ble_eq_true rfl)) (obv_0 rfl) rfl) rfl rfl hl.1 rfl (lv_room (Nat.le_of_ble_eq_true rfl)) dL_law_987 hrm) hW (fun H locs hW => ?_)
        refine lv_iload hx hb dL_law_990 (lv_at hl 1 rfl) ?_
        refine lv_icmp_eq (tgt := 997) hx hb dL_law_992 (by decide) (fun hc818 => ?_) (fun hc818 => ?_)
        · have hs := ww_T hs hc818
          refine lv_iload hx hb dL_law_997 (lv_at hl 1 rfl) ?_
          refine lv_if_ne (tgt := 1014) hx hb dL_law_999 (by decide) (fun hc819 => ?_) (fun hc819 => ?_)
          · have hs := ww_F hs hc819
            exact hL1014 L σ813 x4 _ _ _ _ ls hx0 hcs hrm hW (lv_sub hl [2, 3, 4, 5, 6] rfl) hs
          · have hs := ww_T hs hc819
            refine lv_aload_n hx hb dL_law_1002 rfl (lv_at hl 5 rfl) ?_
            refine lv_iconst (v := 0) hx hb dL_law_1003 (by decide) ?_
            refine ww_lald hx hb hW (pr_dy hc814 rfl rfl) (j := (0 : Int32)) (vin_lit rfl) dL_law_1004 ?_
            refine lv_iload hx hb dL_law_1005 (lv_at hl 0 rfl) ?_
            refine lv_i2l hx hb dL_law_1007 rfl ?_
            refine W.lcmp hx hb dL_law_1008 ?_
            refine lv_if_eq (tgt := 1014) hx hb dL_law_1009 (by decide) (fun hc820 => ?_) (fun hc820 => ?_)
            · have hs := ww_T hs hc820
              exact hL1014 L σ813 x4 _ _ _ _ ls hx0 hcs hrm hW (lv_sub hl [2, 3, 4, 5, 6] rfl) hs
            · have hs := ww_F hs hc820
              refine lv_iconst (v := 0) hx hb dL_law_1012 (by decide) ?_
              have hs := ww_S hs
              exact wl_ret hx hb hr hlocks hW hsz hrm (congrArg Prod.fst hs) hr1 dL_law_1013
        · have hs := ww_F hs hc818
          refine lv_iconst (v := 0) hx hb dL_law_995 (by decide) ?_
          have hs := ww_S hs
          exact wl_ret hx hb hr hlocks hW hsz hrm (congrArg Prod.fst hs) hr1 dL_law_996
      have hL869 : ∀ (L : ly_T) (σ : st_T) (x4 : Int32) (H : Heap) (locs : List Loc) (cells slots : Nat) (ls : Array Slot), lext L0 σ0 L σ → bk σ0 σ cells slots → (cells ≤ 1200384 ∧ slots ≤ 5487786) → wv g L σ s H locs → lv_has ls 7 [(0, .ref b), (1, .ref (L 1 0)), (2, .ref (L 109 0)), (3, .ref (L 100 0)), (4, .int x4)] → (m_L_law_L869 N xs (m_L_law_L3445 N xs (m_L_law_L23 N xs n23))) σ x4 = some (r_, σ_) → W p l e (room_1) s m #[Value.ref b] below meth c H locs cells slots (lw_Z below #[Value.ref b] s) (F0 m 869 ls []) := by
        have hL934 : ∀ (L : ly_T) (σ : st_T) (x4 : Int32) (H : Heap) (locs : List Loc) (cells slots : Nat) (ls : Array Slot), lext L0 σ0 L σ → bk σ0 σ cells slots → (cells ≤ 1200384 ∧ slots ≤ 5487786) → wv g L σ s H locs → lv_has ls 7 [(0, .ref b), (1, .ref (L 1 0)), (2, .ref (L 109 0)), (3, .ref (L 100 0)), (4, .int x4)] → (m_L_law_L934 N xs (m_L_law_L3445 N xs (m_L_law_L23 N xs n23))) σ x4 = some (r_, σ_) → W p l e (room_1) s m #[Value.ref b] below meth c H locs cells slots (lw_Z below #[Value.ref b] s) (F0 m 934 ls []) := by
          intro L σ x4 H locs cells slots ls hx0 hcs hrm hW hl hs
          unfold m_L_law_L934 at hs
          refine lv_goto (tgt := 3445) hx hb dL_law_934 (by decide) ?_
          exact hL3445 L σ x4 _ _ _ _ ls hx0 hcs hrm hW (lv_sub hl [0, 1, 2, 3, 4] rfl) hs
        intro L σ x4 H locs cells slots ls hx0 hcs hrm hW hl hs
        unfold m_L_law_L869 at hs
        refine lv_aload_n hx hb dL_law_869 rfl (lv_at hl 1 rfl) ?_
        refine lv_aload_n hx hb dL_law_870 rfl (lv_at hl 0 rfl) ?_
        refine lv_iload hx hb dL_law_871 (lv_at hl 4 rfl) ?_
        refine lv_iconst (v := 1) hx hb dL_law_873 (by decide) ?_
        refine lv_iadd hx hb dL_law_874 ?_
        obtain ⟨hc821, hs⟩ := ww_chk hs
        refine va_sld hx hb hX hbl hbA hW.2.2.1 hc821 dL_law_875 ?_
        refine lv_aload_n hx hb dL_law_876 rfl (lv_at hl 0 rfl) ?_
        refine lv_iload hx hb dL_law_877 (lv_at hl 4 rfl) ?_
        refine lv_iconst (v := 2) hx hb dL_law_879 (by decide) ?_
        refine lv_iadd hx hb dL_law_880 ?_
        obtain ⟨hc822, hs⟩ := ww_chk hs
        refine va_sld hx hb hX hbl hbA hW.2.2.1 hc822 dL_law_881 ?_
        refine lv_aload_n hx hb dL_law_882 rfl (lv_at hl 3 rfl) ?_
        obtain ⟨v825, σ826, hc823, hs⟩ := ww_bn2 hs
        have hp827 : pr σ 1 0 := (pr_st (hW.rd hgm) (Nat.le_of_ble_eq_true rfl))
        have hp828 : pr σ 109 0 := (pr_st (hW.rd hgm) (Nat.le_of_ble_eq_true rfl))
        obtain ⟨hc829, hs⟩ := ww_chk hs
        have hp830 : pr σ 100 0 := (pr_dy hc829 rfl rfl)
        obtain ⟨hc831, hs⟩ := ww_chk hs
        obtain ⟨hs, hck⟩ := ww_ck2 hs
        have hrm1 := le2_ (hcs.roomC hc831 hck) hRc
        refine wa_ci (vx_runSW (As := [.ref (L 1 0), .int (xs (x4 + (1 : Int32)).toNatClampNeg), .int (xs (x4 + (2 : Int32)).toNatClampNeg), .ref (L 100 0)]) (rest := []) ⟨hx, hb, hml, hown, hts⟩ (c_X0_like g hgm l L σ (xs (x4 + (1 : Int32)).toNatClampNeg) (xs (x4 + (2 : Int32)).toNatClampNeg) hst _ _ hc823) (vx_cwSW 4 hts (lw_SW q1140 q1141 q110 q1142) rfl rfl rfl hd_X0_like.2 ⟨(Nat.le_of_ble_eq_true rfl), (Nat.le_of_ble_eq_true rfl)⟩) (ww_preS hW) rfl rfl hl.1 rfl (lv_room (Nat.le_of_ble_eq_true rfl)) dL_law_883 hrm1) hW (fun H locs L hx1 hW => ?_)
        have hc832 : 0 < gN_ σ826 100 := Nat.lt_of_lt_of_le hc829 (hx1.2.1 100)
        have hcs := hcs.call hc831
        have hrm := hrm1
        have hl : lv_has ls 7 [(0, .ref b), (1, .ref (L 1 0)), (2, .ref (L 109 0)), (3, .ref (L 100 0)), (4, .int x4)] := by rw [hx1.at hp827 (by decide), hx1.at hp828 (by decide), hx1.at hp830 (by decide)]; exact hl
        have hx0 := hx0.trans hx1
        refine lv_istore (lv' := [(5, .int v825), (0, .ref b), (1, .ref (L 1 0)), (2, .ref (L 109 0)), (3, .ref (L 100 0)), (4, .int x4)]) hx hb dL_law_886 hl (by decide) rfl (fun ls hl => ?_)
        refine lv_aload_n hx hb dL_law_888 rfl (lv_at hl 3 rfl) ?_
        refine lv_aload_n hx hb dL_law_889 rfl (lv_at hl 1 rfl) ?_
        refine lv_iload hx hb dL_law_890 (lv_at hl 5 rfl) ?_
        refine lv_iconst (v := 1) hx hb dL_law_892 (by decide) ?_
        refine lv_iadd hx hb dL_law_893 ?_
        refine va_sld hx hb hX hbl hbA hW.2.2.1 hc821 dL_law_894 ?_
        refine lv_aload_n hx hb dL_law_895 rfl (lv_at hl 1 rfl) ?_
        refine lv_iload hx hb dL_law_896 (lv_at hl 5 rfl) ?_
        refine lv_iconst (v := 2) hx hb dL_law_898 (by decide) ?_
        refine lv_iadd hx hb dL_law_899 ?_
        refine va_sld hx hb hX hbl hbA hW.2.2.1 hc822 dL_law_900 ?_
        obtain ⟨v835, σ836, hc833, hs⟩ := ww_bn2 hs
        obtain ⟨hkp, hs⟩ := ww_pif hs
        obtain ⟨hx0, hcs⟩ := lx_s hx0 hcs hkp
        refine ww_ci (va_runV (As := [.int (xs (x4 + (1 : Int32)).toNatClampNeg), .int (xs (x4 + (2 : Int32)).toNatClampNeg)]) (rest := []) ⟨hx, hb, hml, hown, hts⟩ (c_X10_like g hgm l L σ826 (xs (x4 + (1 : Int32)).toNatClampNeg) (xs (x4 + (2 : Int32)).toNatClampNeg) _ _ hc833) (cwV 2 hts (lw_V q2165 q2166 q2167 q123 q2168) rfl rfl rfl hd_X10_like ⟨(Nat.le_of_ble_eq_true rfl), (Nat.le_of_ble_eq_true rfl)⟩) (ww_preV hW (pr_st (hW.rd hgm) (Nat.le_of_ble_eq_true rfl)) (obv_0 rfl) rfl) rfl rfl hl.1 rfl (lv_room (Nat.le_of_ble_eq_true rfl)) dL_law_901 hrm) hW (fun H locs hW => ?_)
        have hc837 : 0 < gN_ σ836 100 := by rw [hkp.1]; exact hc832
        refine lv_istore (lv' := [(6, .int v835), (5, .int v825), (0, .ref b), (1, .ref (L 1 0)), (2, .ref (L 109 0)), (3, .ref (L 100 0)), (4, .int x4)]) hx hb dL_law_904 hl (by decide) rfl (fun ls hl => ?_)
        refine lv_aload_n hx hb dL_law_906 rfl (lv_at hl 4 rfl) ?_
        obtain ⟨v840, hc838, hs⟩ := ww_bnd hs
        refine ww_ci (va_runV (As := []) (rest := []) ⟨hx, hb, hml, hown, hts⟩ (c_X10_thrown g hgm l L σ836  _ hc838) (cwV 0 hts (lw_V q1671 q1672 q1673 q123 q1674) rfl rfl rfl hd_X10_thrown ⟨(Nat.le_of_ble_eq_true rfl), (Nat.le_of_ble_eq_true rfl)⟩) (ww_preV hW (pr_st (hW.rd hgm) (Nat.le_of_ble_eq_true rfl)) (obv_0 rfl) rfl) rfl rfl hl.1 rfl (lv_room (Nat.le_of_ble_eq_true rfl)) dL_law_907 hrm) hW (fun H locs hW => ?_)
        refine lv_iload hx hb dL_law_910 (lv_at hl 1 rfl) ?_
        refine lv_icmp_eq (tgt := 917) hx hb dL_law_912 (by decide) (fun hc841 => ?_) (fun hc841 => ?_)
        · have hs := ww_T hs hc841
          refine lv_iload hx hb dL_law_917 (lv_at hl 1 rfl) ?_
          refine lv_if_ne (tgt := 934) hx hb dL_law_919 (by decide) (fun hc842 => ?_) (fun hc842 => ?_)
          · have hs := ww_F hs hc842
            exact hL934 L σ836 x4 _ _ _ _ ls hx0 hcs hrm hW (lv_sub hl [2, 3, 4, 5, 6] rfl) hs
          · have hs := ww_T hs hc842
            refine lv_aload_n hx hb dL_law_922 rfl (lv_at hl 5 rfl) ?_
            refine lv_iconst (v := 0) hx hb dL_law_923 (by decide) ?_
            refine ww_lald hx hb hW (pr_dy hc837 rfl rfl) (j := (0 : Int32)) (vin_lit rfl) dL_law_924 ?_
            refine lv_iload hx hb dL_law_925 (lv_at hl 0 rfl) ?_
            refine lv_i2l hx hb dL_law_927 rfl ?_
            refine W.lcmp hx hb dL_law_928 ?_
            refine lv_if_eq (tgt := 934) hx hb dL_law_929 (by decide) (fun hc843 => ?_) (fun hc843 => ?_)
            · have hs := ww_T hs hc843
              exact hL934 L σ836 x4 _ _ _ _ ls hx0 hcs hrm hW (lv_sub hl [2, 3, 4, 5, 6] rfl) hs
            · have hs := ww_F hs hc843
              refine lv_iconst (v := 0) hx hb dL_law_932 (by decide) ?_
              have hs := ww_S hs
              exact wl_ret hx hb hr hlocks hW hsz hrm (congrArg Prod.fst hs) hr1 dL_law_933
        · have hs := ww_F hs hc841
          refine lv_iconst (v := 0) hx hb dL_law_915 (by decide) ?_
          have hs := ww_S hs
          exact wl_ret hx hb hr hlocks hW hsz hrm (congrArg Prod.fst hs) hr1 dL_law_916
      have hL813 : ∀ (L : ly_T) (σ : st_T) (x4 : Int32) (H : Heap) (locs : List Loc) (cells slots : Nat) (ls : Array Slot), lext L0 σ0 L σ → bk σ0 σ cells slots → (cells ≤ 1200384 ∧ slots ≤ 5487786) → wv g L σ s H locs → lv_has ls 7 [(0, .ref b), (1, .ref (L 1 0)), (2, .ref (L 109 0)), (3, .ref (L 100 0)), (4, .int x4)] → (m_L_law_L813 N xs (m_L_law_L3445 N xs (m_L_law_L23 N xs n23))) σ x4 = some (r_, σ_) → W p l e (room_1) s m #[Value.ref b] below meth c H locs cells slots (lw_Z below #[Value.ref b] s) (F0 m 813 ls []) := by
        have hL866 : ∀ (L : ly_T) (σ : st_T) (x4 : Int32) (H : Heap) (locs : List Loc) (cells slots : Nat) (ls : Array Slot), lext L0 σ0 L σ → bk σ0 σ cells slots → (cells ≤ 1200384 ∧ slots ≤ 5487786) → wv g L σ s H locs → lv_has ls 7 [(0, .ref b), (1, .ref (L 1 0)), (2, .ref (L 109 0)), (3, .ref (L 100 0)), (4, .int x4)] → (m_L_law_L866 N xs (m_L_law_L3445 N xs (m_L_law_L23 N xs n23))) σ x4 = some (r_, σ_) → W p l e (room_1) s m #[Value.ref b] below meth c H locs cells slots (lw_Z below #[Value.ref b] s) (F0 m 866 ls []) := by
          intro L σ x4 H locs cells slots ls hx0 hcs hrm hW hl hs
          unfold m_L_law_L866 at hs
          refine lv_goto (tgt := 3445) hx hb dL_law_866 (by decide) ?_
          exact hL3445 L σ x4 _ _ _ _ ls hx0 hcs hrm hW (lv_sub hl [0, 1, 2, 3, 4] rfl) hs
        intro L σ x4 H locs cells slots ls hx0 hcs hrm hW hl hs
        unfold m_L_law_L813 at hs
        refine lv_aload_n hx hb dL_law_813 rfl (lv_at hl 1 rfl) ?_
        refine lv_aload_n hx hb dL_law_814 rfl (lv_at hl 0 rfl) ?_
        refine lv_iload hx hb dL_law_815 (lv_at hl 4 rfl) ?_
        refine lv_iconst (v := 1) hx hb dL_law_817 (by decide) ?_
        refine lv_iadd hx hb dL_law_818 ?_
        obtain ⟨hc844, hs⟩ := ww_chk hs
        refine va_sld hx hb hX hbl hbA hW.2.2.1 hc844 dL_law_819 ?_
        refine lv_aload_n hx hb dL_law_820 rfl (lv_at hl 3 rfl) ?_
        obtain ⟨v847, σ848, hc845, hs⟩ := ww_bn2 hs
        have hp849 : pr σ 1 0 := (pr_st (hW.rd hgm) (Nat.le_of_ble_eq_true rfl))
        have hp850 : pr σ 109 0 := (pr_st (hW.rd hgm) (Nat.le_of_ble_eq_true rfl))
        obtain ⟨hc851, hs⟩ := ww_chk hs
        have hp852 : pr σ 100 0 := (pr_dy hc851 rfl rfl)
        obtain ⟨hc853, hs⟩ := ww_chk hs
        obtain ⟨hs, hck⟩ := ww_ck2 hs
        have hrm1 := le2_ (hcs.roomC hc853 hck) hRc
        refine wa_ci (vx_runSW (As := [.ref (L 1 0), .int (xs (x4 + (1 : Int32)).toNatClampNeg), .ref (L 100 0)]) (rest := []) ⟨hx, hb, hml, hown, hts⟩ (c_X0_rule g hgm l L σ (xs (x4 + (1 : Int32)).toNatClampNeg) hst _ _ hc845) (vx_cwSW 3 hts (lw_SW q946 q947 q110 q948) rfl rfl rfl hd_X0_rule.2 ⟨(Nat.le_of_ble_eq_true rfl), (Nat.le_of_ble_eq_true rfl)⟩) (ww_preS hW) rfl rfl hl.1 rfl (lv_room (Nat.le_of_ble_eq_true rfl)) dL_law_821 hrm1) hW (fun H locs L hx1 hW => ?_)
        have hc854 : 0 < gN_ σ848 100 := Nat.lt_of_lt_of_le hc851 (hx1.2.1 100)
        have hcs := hcs.call hc853
        have hrm := hrm1
        have hl : lv_has ls 7 [(0, .ref b), (1, .ref (L 1 0)), (2, .ref (L 109 0)), (3, .ref (L 100 0)), (4, .int x4)] := by rw [hx1.at hp849 (by decide), hx1.at hp850 (by decide), hx1.at hp852 (by decide)]; exact hl
        have hx0 := hx0.trans hx1
        refine lv_istore (lv' := [(5, .int v847), (0, .ref b), (1, .ref (L 1 0)), (2, .ref (L 109 0)), (3, .ref (L 100 0)), (4, .int x4)]) hx hb dL_law_824 hl (by decide) rfl (fun ls hl => ?_)
        refine lv_aload_n hx hb dL_law_826 rfl (lv_at hl 3 rfl) ?_
        refine lv_aload_n hx hb dL_law_827 rfl (lv_at hl 1 rfl) ?_
        refine lv_iload hx hb dL_law_828 (lv_at hl 5 rfl) ?_
        refine lv_iconst (v := 1) hx hb dL_law_830 (by decide) ?_
        refine lv_iadd hx hb dL_law_831 ?_
        refine va_sld hx hb hX hbl hbA hW.2.2.1 hc844 dL_law_832 ?_
        obtain ⟨v857, σ858, hc855, hs⟩ := ww_bn2 hs
        obtain ⟨hkp, hs⟩ := ww_pif hs
        obtain ⟨hx0, hcs⟩ := lx_s hx0 hcs hkp
        refine ww_ci (va_runV (As := [.int (xs (x4 + (1 : Int32)).toNatClampNeg)]) (rest := []) ⟨hx, hb, hml, hown, hts⟩ (c_X10_rule g hgm l L σ848 (xs (x4 + (1 : Int32)).toNatClampNeg) _ _ hc855) (cwV 1 hts (lw_V q2068 q2069 q2070 q123 q2071) rfl rfl rfl hd_X10_rule ⟨(Nat.le_of_ble_eq_true rfl), (Nat.le_of_ble_eq_true rfl)⟩) (ww_preV hW (pr_st (hW.rd hgm) (Nat.le_of_ble_eq_true rfl)) (obv_0 rfl) rfl) rfl rfl hl.1 rfl (lv_room (Nat.le_of_ble_eq_true rfl)) dL_law_833 hrm) hW (fun H locs hW => ?_)
        have hc859 : 0 < gN_ σ858 100 := by rw [hkp.1]; exact hc854
        refine lv_istore (lv' := [(6, .int v857), (5, .int v847), (0, .ref b), (1, .ref (L 1 0)), (2, .ref (L 109 0)), (3, .ref (L 100 0)), (4, .int x4)]) hx hb dL_law_836 hl (by decide) rfl (fun ls hl => ?_)
        refine lv_aload_n hx hb dL_law_838 rfl (lv_at hl 4 rfl) ?_
        obtain ⟨v862, hc860, hs⟩ := ww_bnd hs
        refine ww_ci (va_runV (As := []) (rest := []) ⟨hx, hb, hml, hown, hts⟩ (c_X10_thrown g hgm l L σ858  _ hc860) (cwV 0 hts (lw_V q1671 q1672 q1673 q123 q1674) rfl rfl rfl hd_X10_thrown ⟨(Nat.le_of_ble_eq_true rfl), (Nat.le_of_ble_eq_true rfl)⟩) (ww_preV hW (pr_st (hW.rd hgm) (Nat.le_of_ble_eq_true rfl)) (obv_0 rfl) rfl) rfl rfl hl.1 rfl (lv_room (Nat.le_of_ble_eq_true rfl)) dL_law_839 hrm) hW (fun H locs hW => ?_)
        refine lv_iload hx hb dL_law_842 (lv_at hl 1 rfl) ?_
        refine lv_icmp_eq (tgt := 849) hx hb dL_law_844 (by decide) (fun hc863 => ?_) (fun hc863 => ?_)
        · have hs := ww_T hs hc863
          refine lv_iload hx hb dL_law_849 (lv_at hl 1 rfl) ?_
          refine lv_if_ne (tgt := 866) hx hb dL_law_851 (by decide) (fun hc864 => ?_) (fun hc864 => ?_)
          · have hs := ww_F hs hc864
            exact hL866 L σ858 x4 _ _ _ _ ls hx0 hcs hrm hW (lv_sub hl [2, 3, 4, 5, 6] rfl) hs
          · have hs := ww_T hs hc864
            refine lv_aload_n hx hb dL_law_854 rfl (lv_at hl 5 rfl) ?_
            refine lv_iconst (v := 0) hx hb dL_law_855 (by decide) ?_
            refine ww_lald hx hb hW (pr_dy hc859 rfl rfl) (j := (0 : Int32)) (vin_lit rfl) dL_law_856 ?_
            refine lv_iload hx hb dL_law_857 (lv_at hl 0 rfl) ?_
            refine lv_i2l hx hb dL_law_859 rfl ?_
            refine W.lcmp hx hb dL_law_860 ?_
            refine lv_if_eq (tgt := 866) hx hb dL_law_861 (by decide) (fun hc865 => ?_) (fun hc865 => ?_)
            · have hs := ww_T hs hc865
              exact hL866 L σ858 x4 _ _ _ _ ls hx0 hcs hrm hW (lv_sub hl [2, 3, 4, 5, 6] rfl) hs
            · have hs := ww_F hs hc865
              refine lv_iconst (v := 0) hx hb dL_law_864 (by decide) ?_
              have hs := ww_S hs
              exact wl_ret hx hb hr hlocks hW hsz hrm (congrArg Prod.fst hs) hr1 dL_law_865
        · have hs := ww_F hs hc863
          refine lv_iconst (v := 0) hx hb dL_law_847 (by decide) ?_
          have hs := ww_S hs
          exact wl_ret hx hb hr hlocks hW hsz hrm (congrArg Prod.fst hs) hr1 dL_law_848
      have hL740 : ∀ (L : ly_T) (σ : st_T) (x4 : Int32) (H : Heap) (locs : List Loc) (cells slots : Nat) (ls : Array Slot), lext L0 σ0 L σ → bk σ0 σ cells slots → (cells ≤ 1200384 ∧ slots ≤ 5487786) → wv g L σ s H locs → lv_has ls 7 [(0, .ref b), (1, .ref (L 1 0)), (2, .ref (L 109 0)), (3, .ref (L 100 0)), (4, .int x4)] → (m_L_law_L740 N xs (m_L_law_L3445 N xs (m_L_law_L23 N xs n23))) σ x4 = some (r_, σ_) → W p l e (room_1) s m #[Value.ref b] below meth c H locs cells slots (lw_Z below #[Value.ref b] s) (F0 m 740 ls []) := by
        intro L σ x4 H locs cells slots ls hx0 hcs hrm hW hl hs
        unfold m_L_law_L740 at hs
        refine lv_aload_n hx hb dL_law_740 rfl (lv_at hl 1 rfl) ?_
        refine lv_aload_n hx hb dL_law_741 rfl (lv_at hl 0 rfl) ?_
        refine lv_iload hx hb dL_law_742 (lv_at hl 4 rfl) ?_
        refine lv_iconst (v := 1) hx hb dL_law_744 (by decide) ?_
        refine lv_iadd hx hb dL_law_745 ?_
        obtain ⟨hc866, hs⟩ := ww_chk hs
        refine va_sld hx hb hX hbl hbA hW.2.2.1 hc866 dL_law_746 ?_
        refine lv_aload_n hx hb dL_law_747 rfl (lv_at hl 0 rfl) ?_
        refine lv_iload hx hb dL_law_748 (lv_at hl 4 rfl) ?_
        refine lv_iconst (v := 2) hx hb dL_law_750 (by decide) ?_
        refine lv_iadd hx hb dL_law_751 ?_
        obtain ⟨hc867, hs⟩ := ww_chk hs
        refine va_sld hx hb hX hbl hbA hW.2.2.1 hc867 dL_law_752 ?_
        refine lv_aload_n hx hb dL_law_753 rfl (lv_at hl 0 rfl) ?_
        refine lv_iload hx hb dL_law_754 (lv_at hl 4 rfl) ?_
        refine lv_iconst (v := 3) hx hb dL_law_756 (by decide) ?_
        refine lv_iadd hx hb dL_law_757 ?_
        obtain ⟨hc868, hs⟩ := ww_chk hs
        refine va_sld hx hb hX hbl hbA hW.2.2.1 hc868 dL_law_758 ?_
        refine lv_aload_n hx hb dL_law_759 rfl (lv_at hl 0 rfl) ?_
        refine lv_iload hx hb dL_law_760 (lv_at hl 4 rfl) ?_
        refine lv_iconst (v := 4) hx hb dL_law_762 (by decide) ?_
        refine lv_iadd hx hb dL_law_763 ?_
        obtain ⟨hc869, hs⟩ := ww_chk hs
        refine va_sld hx hb hX hbl hbA hW.2.2.1 hc869 dL_law_764 ?_
        refine lv_aload_n hx hb dL_law_765 rfl (lv_at hl 0 rfl) ?_
        refine lv_iload hx hb dL_law_766 (lv_at hl 4 rfl) ?_
        refine lv_iconst (v := 5) hx hb dL_law_768 (by decide) ?_
        refine lv_iadd hx hb dL_law_769 ?_
        obtain ⟨hc870, hs⟩ := ww_chk hs
        refine va_sld hx hb hX hbl hbA hW.2.2.1 hc870 dL_law_770 ?_
        obtain ⟨v873, σ874, hc871, hs⟩ := ww_bn2 hs
        have hp875 : pr σ 1 0 := (pr_st (hW.rd hgm) (Nat.le_of_ble_eq_true rfl))
        have hp876 : pr σ 109 0 := (pr_st (hW.rd hgm) (Nat.le_of_ble_eq_true rfl))
        obtain ⟨hc877, hs⟩ := ww_chk hs
        have hp878 : pr σ 100 0 := (pr_dy hc877 rfl rfl)
        obtain ⟨hc879, hs⟩ := ww_chk hs
        obtain ⟨hs, hck⟩ := ww_ck2 hs
        have hrm1 := le2_ (hcs.roomC hc879 hck) hRc
        refine wa_ci (va_runV (As := [.int (xs (x4 + (1 : Int32)).toNatClampNeg), .int (xs (x4 + (2 : Int32)).toNatClampNeg), .int (xs (x4 + (3 : Int32)).toNatClampNeg), .int (xs (x4 + (4 : Int32)).toNatClampNeg), .int (xs (x4 + (5 : Int32)).toNatClampNeg)]) (rest := []) ⟨hx, hb, hml, hown, hts⟩ (c_X1_feed g hgm l L σ (xs (x4 + (1 : Int32)).toNatClampNeg) (xs (x4 + (2 : Int32)).toNatClampNeg) (xs (x4 + (3 : Int32)).toNatClampNeg) (xs (x4 + (4 : Int32)).toNatClampNeg) (xs (x4 + (5 : Int32)).toNatClampNeg) _ _ hc871) (cwV 5 hts (lw_V q481 q482 q483 q111 q484) rfl rfl rfl hd_X1_feed ⟨(Nat.le_of_ble_eq_true rfl), (Nat.le_of_ble_eq_true rfl)⟩) (ww_preV hW (pr_st (hW.rd hgm) (Nat.le_of_ble_eq_true rfl)) (obv_0 rfl) rfl) rfl rfl hl.1 rfl (lv_room (Nat.le_of_ble_eq_true rfl)) dL_law_771 hrm1) hW (fun H locs L hx1 hW => ?_)
        have hc880 : 0 < gN_ σ874 100 := Nat.lt_of_lt_of_le hc877 (hx1.2.1 100)
        have hcs := hcs.call hc879
        have hrm := hrm1
        have hl : lv_has ls 7 [(0, .ref b), (1, .ref (L 1 0)), (2, .ref (L 109 0)), (3, .ref (L 100 0)), (4, .int x4)] := by rw [hx1.at hp875 (by decide), hx1.at hp876 (by decide), hx1.at hp878 (by decide)]; exact hl
        have hx0 := hx0.trans hx1
        refine lv_aload_n hx hb dL_law_774 rfl (lv_at hl 2 rfl) ?_
        refine lv_aload_n hx hb dL_law_775 rfl (lv_at hl 0 rfl) ?_
        refine lv_iload hx hb dL_law_776 (lv_at hl 4 rfl) ?_
        refine lv_iconst (v := 1) hx hb dL_law_778 (by decide) ?_
        refine lv_iadd hx hb dL_law_779 ?_
        refine va_sld hx hb hX hbl hbA hW.2.2.1 hc866 dL_law_780 ?_
        refine lv_aload_n hx hb dL_law_781 rfl (lv_at hl 0 rfl) ?_
        refine lv_iload hx hb dL_law_782 (lv_at hl 4 rfl) ?_
        refine lv_iconst (v := 2) hx hb dL_law_784 (by decide) ?_
        refine lv_iadd hx hb dL_law_785 ?_
        refine va_sld hx hb hX hbl hbA hW.2.2.1 hc867 dL_law_786 ?_
        refine lv_aload_n hx hb dL_law_787 rfl (lv_at hl 0 rfl) ?_
        refine lv_iload hx hb dL_law_788 (lv_at hl 4 rfl) ?_
        refine lv_iconst (v := 3) hx hb dL_law_790 (by decide) ?_
        refine lv_iadd hx hb dL_law_791 ?_
        refine va_sld hx hb hX hbl hbA hW.2.2.1 hc868 dL_law_792 ?_
        refine lv_aload_n hx hb dL_law_793 rfl (lv_at hl 0 rfl) ?_
        refine lv_iload hx hb dL_law_794 (lv_at hl 4 rfl) ?_
        refine lv_iconst (v := 4) hx hb dL_law_796 (by decide) ?_
        refine lv_iadd hx hb dL_law_797 ?_
        refine va_sld hx hb hX hbl hbA hW.2.2.1 hc869 dL_law_798 ?_
        refine lv_aload_n hx hb dL_law_799 rfl (lv_at hl 0 rfl) ?_
        refine lv_iload hx hb dL_law_800 (lv_at hl 4 rfl) ?_
        refine lv_iconst (v := 5) hx hb dL_law_802 (by decide) ?_
        refine lv_iadd hx hb dL_law_803 ?_
        refine va_sld hx hb hX hbl hbA hW.2.2.1 hc870 dL_law_804 ?_
        obtain ⟨v883, σ884, hc881, hs⟩ := ww_bn2 hs
        obtain ⟨hkp, hs⟩ := ww_pif hs
        obtain ⟨hx0, hcs⟩ := lx_s hx0 hcs hkp
        refine ww_ci (va_runV (As := [.int (xs (x4 + (1 : Int32)).toNatClampNeg), .int (xs (x4 + (2 : Int32)).toNatClampNeg), .int (xs (x4 + (3 : Int32)).toNatClampNeg), .int (xs (x4 + (4 : Int32)).toNatClampNeg), .int (xs (x4 + (5 : Int32)).toNatClampNeg)]) (rest := [.int v873]) ⟨hx, hb, hml, hown, hts⟩ (c_X10_feed g hgm l L σ874 (xs (x4 + (1 : Int32)).toNatClampNeg) (xs (x4 + (2 : Int32)).toNatClampNeg) (xs (x4 + (3 : Int32)).toNatClampNeg) (xs (x4 + (4 : Int32)).toNatClampNeg) (xs (x4 + (5 : Int32)).toNatClampNeg) _ _ hc881) (cwV 5 hts (lw_V q2064 q2065 q2066 q123 q2067) rfl rfl rfl hd_X10_feed ⟨(Nat.le_of_ble_eq_true rfl), (Nat.le_of_ble_eq_true rfl)⟩) (ww_preV hW (pr_st (hW.rd hgm) (Nat.le_of_ble_eq_true rfl)) (obv_0 rfl) rfl) rfl rfl hl.1 rfl (lv_room (Nat.le_of_ble_eq_true rfl)) dL_law_805 hrm) hW (fun H locs hW => ?_)
        have hc885 : 0 < gN_ σ884 100 := by rw [hkp.1]; exact hc880
        refine lv_icmp_eq (tgt := 3445) hx hb dL_law_808 (by decide) (fun hc886 => ?_) (fun hc886 => ?_)
        · have hs := ww_T hs hc886
          exact hL3445 L σ884 x4 _ _ _ _ ls hx0 hcs hrm hW (lv_sub hl [0, 1, 2, 3, 4] rfl) hs
        · have hs := ww_F hs hc886
          refine lv_iconst (v := 0) hx hb dL_law_811 (by decide) ?_
          have hs := ww_S hs
          exact wl_ret hx hb hr hlocks hW hsz hrm (congrArg Prod.fst hs) hr1 dL_law_812
      have hL684 : ∀ (L : ly_T) (σ : st_T) (x4 : Int32) (H : Heap) (locs : List Loc) (cells slots : Nat) (ls : Array Slot), lext L0 σ0 L σ → bk σ0 σ cells slots → (cells ≤ 1200384 ∧ slots ≤ 5487786) → wv g L σ s H locs → lv_has ls 7 [(0, .ref b), (1, .ref (L 1 0)), (2, .ref (L 109 0)), (3, .ref (L 100 0)), (4, .int x4)] → (m_L_law_L684 N xs (m_L_law_L3445 N xs (m_L_law_L23 N xs n23))) σ x4 = some (r_, σ_) → W p l e (room_1) s m #[Value.ref b] below meth c H locs cells slots (lw_Z below #[Value.ref b] s) (F0 m 684 ls []) := by
        have hL737 : ∀ (L : ly_T) (σ : st_T) (x4 : Int32) (H : Heap) (locs : List Loc) (cells slots : Nat) (ls : Array Slot), lext L0 σ0 L σ → bk σ0 σ cells slots → (cells ≤ 1200384 ∧ slots ≤ 5487786) → wv g L σ s H locs → lv_has ls 7 [(0, .ref b), (1, .ref (L 1 0)), (2, .ref (L 109 0)), (3, .ref (L 100 0)), (4, .int x4)] → (m_L_law_L737 N xs (m_L_law_L3445 N xs (m_L_law_L23 N xs n23))) σ x4 = some (r_, σ_) → W p l e (room_1) s m #[Value.ref b] below meth c H locs cells slots (lw_Z below #[Value.ref b] s) (F0 m 737 ls []) := by
          intro L σ x4 H locs cells slots ls hx0 hcs hrm hW hl hs
          unfold m_L_law_L737 at hs
          refine lv_goto (tgt := 3445) hx hb dL_law_737 (by decide) ?_
          exact hL3445 L σ x4 _ _ _ _ ls hx0 hcs hrm hW (lv_sub hl [0, 1, 2, 3, 4] rfl) hs
        intro L σ x4 H locs cells slots ls hx0 hcs hrm hW hl hs
        unfold m_L_law_L684 at hs
        refine lv_aload_n hx hb dL_law_684 rfl (lv_at hl 1 rfl) ?_
        refine lv_aload_n hx hb dL_law_685 rfl (lv_at hl 0 rfl) ?_
        refine lv_iload hx hb dL_law_686 (lv_at hl 4 rfl) ?_
        refine lv_iconst (v := 1) hx hb dL_law_688 (by decide) ?_
        refine lv_iadd hx hb dL_law_689 ?_
        obtain ⟨hc887, hs⟩ := ww_chk hs
        refine va_sld hx hb hX hbl hbA hW.2.2.1 hc887 dL_law_690 ?_
        refine lv_aload_n hx hb dL_law_691 rfl (lv_at hl 3 rfl) ?_
        obtain ⟨v890, σ891, hc888, hs⟩ := ww_bn2 hs
        have hp892 : pr σ 1 0 := (pr_st (hW.rd hgm) (Nat.le_of_ble_eq_true rfl))
        have hp893 : pr σ 109 0 := (pr_st (hW.rd hgm) (Nat.le_of_ble_eq_true rfl))
        obtain ⟨hc894, hs⟩ := ww_chk hs
        have hp895 : pr σ 100 0 := (pr_dy hc894 rfl rfl)
        obtain ⟨hc896, hs⟩ := ww_chk hs
        obtain ⟨hs, hck⟩ := ww_ck2 hs
        have hrm1 := le2_ (hcs.roomC hc896 hck) hRc
        refine wa_ci (vx_runSW (As := [.ref (L 1 0), .int (xs (x4 + (1 : Int32)).toNatClampNeg), .ref (L 100 0)]) (rest := []) ⟨hx, hb, hml, hown, hts⟩ (c_X0_fear g hgm l L σ (xs (x4 + (1 : Int32)).toNatClampNeg) hst _ _ hc888) (vx_cwSW 3 hts (lw_SW q939 q940 q110 q941) rfl rfl rfl hd_X0_fear.2 ⟨(Nat.le_of_ble_eq_true rfl), (Nat.le_of_ble_eq_true rfl)⟩) (ww_preS hW) rfl rfl hl.1 rfl (lv_room (Nat.le_of_ble_eq_true rfl)) dL_law_692 hrm1) hW (fun H locs L hx1 hW => ?_)
        have hc897 : 0 < gN_ σ891 100 := Nat.lt_of_lt_of_le hc894 (hx1.2.1 100)
        have hcs := hcs.call hc896
        have hrm := hrm1
        have hl : lv_has ls 7 [(0, .ref b), (1, .ref (L 1 0)), (2, .ref (L 109 0)), (3, .ref (L 100 0)), (4, .int x4)] := by rw [hx1.at hp892 (by decide), hx1.at hp893 (by decide), hx1.at hp895 (by decide)]; exact hl
        have hx0 := hx0.trans hx1
        refine lv_istore (lv' := [(5, .int v890), (0, .ref b), (1, .ref (L 1 0)), (2, .ref (L 109 0)), (3, .ref (L 100 0)), (4, .int x4)]) hx hb dL_law_695 hl (by decide) rfl (fun ls hl => ?_)
        refine lv_aload_n hx hb dL_law_697 rfl (lv_at hl 3 rfl) ?_
        refine lv_aload_n hx hb dL_law_698 rfl (lv_at hl 1 rfl) ?_
        refine lv_iload hx hb dL_law_699 (lv_at hl 5 rfl) ?_
        refine lv_iconst (v := 1) hx hb dL_law_701 (by decide) ?_
        refine lv_iadd hx hb dL_law_702 ?_
        refine va_sld hx hb hX hbl hbA hW.2.2.1 hc887 dL_law_703 ?_
        obtain ⟨v900, σ901, hc898, hs⟩ := ww_bn2 hs
        obtain ⟨hkp, hs⟩ := ww_pif hs
        obtain ⟨hx0, hcs⟩ := lx_s hx0 hcs hkp
        refine ww_ci (va_runV (As := [.int (xs (x4 + (1 : Int32)).toNatClampNeg)]) (rest := []) ⟨hx, hb, hml, hown, hts⟩ (c_X10_fear g hgm l L σ891 (xs (x4 + (1 : Int32)).toNatClampNeg) _ _ hc898) (cwV 1 hts (lw_V q2060 q2061 q2062 q123 q2063) rfl rfl rfl hd_X10_fear ⟨(Nat.le_of_ble_eq_true rfl), (Nat.le_of_ble_eq_true rfl)⟩) (ww_preV hW (pr_st (hW.rd hgm) (Nat.le_of_ble_eq_true rfl)) (obv_0 rfl) rfl) rfl rfl hl.1 rfl (lv_room (Nat.le_of_ble_eq_true rfl)) dL_law_704 hrm) hW (fun H locs hW => ?_)
        have hc902 : 0 < gN_ σ901 100 := by rw [hkp.1]; exact hc897
        refine lv_istore (lv' := [(6, .int v900), (5, .int v890), (0, .ref b), (1, .ref (L 1 0)), (2, .ref (L 109 0)), (3, .ref (L 100 0)), (4, .int x4)]) hx hb dL_law_707 hl (by decide) rfl (fun ls hl => ?_)
        refine lv_aload_n hx hb dL_law_709 rfl (lv_at hl 4 rfl) ?_
        obtain ⟨v905, hc903, hs⟩ := ww_bnd hs
        refine ww_ci (va_runV (As := []) (rest := []) ⟨hx, hb, hml, hown, hts⟩ (c_X10_thrown g hgm l L σ901  _ hc903) (cwV 0 hts (lw_V q1671 q1672 q1673 q123 q1674) rfl rfl rfl hd_X10_thrown ⟨(Nat.le_of_ble_eq_true rfl), (Nat.le_of_ble_eq_true rfl)⟩) (ww_preV hW (pr_st (hW.rd hgm) (Nat.le_of_ble_eq_true rfl)) (obv_0 rfl) rfl) rfl rfl hl.1 rfl (lv_room (Nat.le_of_ble_eq_true rfl)) dL_law_710 hrm) hW (fun H locs hW => ?_)
        refine lv_iload hx hb dL_law_713 (lv_at hl 1 rfl) ?_
        refine lv_icmp_eq (tgt := 720) hx hb dL_law_715 (by decide) (fun hc906 => ?_) (fun hc906 => ?_)
        · have hs := ww_T hs hc906
          refine lv_iload hx hb dL_law_720 (lv_at hl 1 rfl) ?_
          refine lv_if_ne (tgt := 737) hx hb dL_law_722 (by decide) (fun hc907 => ?_) (fun hc907 => ?_)
          · have hs := ww_F hs hc907
            exact hL737 L σ901 x4 _ _ _ _ ls hx0 hcs hrm hW (lv_sub hl [2, 3, 4, 5, 6] rfl) hs
          · have hs := ww_T hs hc907
            refine lv_aload_n hx hb dL_law_725 rfl (lv_at hl 5 rfl) ?_
            refine lv_iconst (v := 0) hx hb dL_law_726 (by decide) ?_
            refine ww_lald hx hb hW (pr_dy hc902 rfl rfl) (j := (0 : Int32)) (vin_lit rfl) dL_law_727 ?_
            refine lv_iload hx hb dL_law_728 (lv_at hl 0 rfl) ?_
            refine lv_i2l hx hb dL_law_730 rfl ?_
            refine W.lcmp hx hb dL_law_731 ?_
            refine lv_if_eq (tgt := 737) hx hb dL_law_732 (by decide) (fun hc908 => ?_) (fun hc908 => ?_)
            · have hs := ww_T hs hc908
              exact hL737 L σ901 x4 _ _ _ _ ls hx0 hcs hrm hW (lv_sub hl [2, 3, 4, 5, 6] rfl) hs
            · have hs := ww_F hs hc908
              refine lv_iconst (v := 0) hx hb dL_law_735 (by decide) ?_
              have hs := ww_S hs
              exact wl_ret hx hb hr hlocks hW hsz hrm (congrArg Prod.fst hs) hr1 dL_law_736
        · have hs := ww_F hs hc906
          refine lv_iconst (v := 0) hx hb dL_law_718 (by decide) ?_
          have hs := ww_S hs
          exact wl_ret hx hb hr hlocks hW hsz hrm (congrArg Prod.fst hs) hr1 dL_law_719
      have hL616 : ∀ (L : ly_T) (σ : st_T) (x4 : Int32) (H : Heap) (locs : List Loc) (cells slots : Nat) (ls : Array Slot), lext L0 σ0 L σ → bk σ0 σ cells slots → (cells ≤ 1200384 ∧ slots ≤ 5487786) → wv g L σ s H locs → lv_has ls 7 [(0, .ref b), (1, .ref (L 1 0)), (2, .ref (L 109 0)), (3, .ref (L 100 0)), (4, .int x4)] → (m_L_law_L616 N xs (m_L_law_L3445 N xs (m_L_law_L23 N xs n23))) σ x4 = some (r_, σ_) → W p l e (room_1) s m #[Value.ref b] below meth c H locs cells slots (lw_Z below #[Value.ref b] s) (F0 m 616 ls []) := by
        have hL681 : ∀ (L : ly_T) (σ : st_T) (x4 : Int32) (H : Heap) (locs : List Loc) (cells slots : Nat) (ls : Array Slot), lext L0 σ0 L σ → bk σ0 σ cells slots → (cells ≤ 1200384 ∧ slots ≤ 5487786) → wv g L σ s H locs → lv_has ls 7 [(0, .ref b), (1, .ref (L 1 0)), (2, .ref (L 109 0)), (3, .ref (L 100 0)), (4, .int x4)] → (m_L_law_L681 N xs (m_L_law_L3445 N xs (m_L_law_L23 N xs n23))) σ x4 = some (r_, σ_) → W p l e (room_1) s m #[Value.ref b] below meth c H locs cells slots (lw_Z below #[Value.ref b] s) (F0 m 681 ls []) := by
          intro L σ x4 H locs cells slots ls hx0 hcs hrm hW hl hs
          unfold m_L_law_L681 at hs
          refine lv_goto (tgt := 3445) hx hb dL_law_681 (by decide) ?_
          exact hL3445 L σ x4 _ _ _ _ ls hx0 hcs hrm hW (lv_sub hl [0, 1, 2, 3, 4] rfl) hs
        intro L σ x4 H locs cells slots ls hx0 hcs hrm hW hl hs
        unfold m_L_law_L616 at hs
        refine lv_aload_n hx hb dL_law_616 rfl (lv_at hl 1 rfl) ?_
        refine lv_aload_n hx hb dL_law_617 rfl (lv_at hl 0 rfl) ?_
        refine lv_iload hx hb dL_law_618 (lv_at hl 4 rfl) ?_
        refine lv_iconst (v := 1) hx hb dL_law_620 (by decide) ?_
        refine lv_iadd hx hb dL_law_621 ?_
        obtain ⟨hc909, hs⟩ := ww_chk hs
        refine va_sld hx hb hX hbl hbA hW.2.2.1 hc909 dL_law_622 ?_
        refine lv_aload_n hx hb dL_law_623 rfl (lv_at hl 0 rfl) ?_
        refine lv_iload hx hb dL_law_624 (lv_at hl 4 rfl) ?_
        refine lv_iconst (v := 2) hx hb dL_law_626 (by decide) ?_
        refine lv_iadd hx hb dL_law_627 ?_
        obtain ⟨hc910, hs⟩ := ww_chk hs
        refine va_sld hx hb hX hbl hbA hW.2.2.1 hc910 dL_law_628 ?_
        refine lv_aload_n hx hb dL_law_629 rfl (lv_at hl 3 rfl) ?_
        obtain ⟨v913, σ914, hc911, hs⟩ := ww_bn2 hs
        have hp915 : pr σ 1 0 := (pr_st (hW.rd hgm) (Nat.le_of_ble_eq_true rfl))
        have hp916 : pr σ 109 0 := (pr_st (hW.rd hgm) (Nat.le_of_ble_eq_true rfl))
        obtain ⟨hc917, hs⟩ := ww_chk hs
        have hp918 : pr σ 100 0 := (pr_dy hc917 rfl rfl)
        obtain ⟨hc919, hs⟩ := ww_chk hs
        obtain ⟨hs, hck⟩ := ww_ck2 hs
        have hrm1 := le2_ (hcs.roomC hc919 hck) hRc
        refine wa_ci (vx_runSW (As := [.ref (L 1 0), .int (xs (x4 + (1 : Int32)).toNatClampNeg), .int (xs (x4 + (2 : Int32)).toNatClampNeg), .ref (L 100 0)]) (rest := []) ⟨hx, hb, hml, hown, hts⟩ (c_X0_fenced g hgm l L σ (xs (x4 + (1 : Int32)).toNatClampNeg) (xs (x4 + (2 : Int32)).toNatClampNeg) hst _ _ hc911) (vx_cwSW 4 hts (lw_SW q932 q933 q110 q934) rfl rfl rfl hd_X0_fenced.2 ⟨(Nat.le_of_ble_eq_true rfl), (Nat.le_of_ble_eq_true rfl)⟩) (ww_preS hW) rfl rfl hl.1 rfl (lv_room (Nat.le_of_ble_eq_true rfl)) dL_law_630 hrm1) hW (fun H locs L hx1 hW => ?_)
        have hc920 : 0 < gN_ σ914 100 := Nat.lt_of_lt_of_le hc917 (hx1.2.1 100)
        have hcs := hcs.call hc919
        have hrm := hrm1
        have hl : lv_has ls 7 [(0, .ref b), (1, .ref (L 1 0)), (2, .ref (L 109 0)), (3, .ref (L 100 0)), (4, .int x4)] := by rw [hx1.at hp915 (by decide), hx1.at hp916 (by decide), hx1.at hp918 (by decide)]; exact hl
        have hx0 := hx0.trans hx1
        refine lv_istore (lv' := [(5, .int v913), (0, .ref b), (1, .ref (L 1 0)), (2, .ref (L 109 0)), (3, .ref (L 100 0)), (4, .int x4)]) hx hb dL_law_633 hl (by decide) rfl (fun ls hl => ?_)
        refine lv_aload_n hx hb dL_law_635 rfl (lv_at hl 3 rfl) ?_
        refine lv_aload_n hx hb dL_law_636 rfl (lv_at hl 1 rfl) ?_
        refine lv_iload hx hb dL_law_637 (lv_at hl 5 rfl) ?_
        refine lv_iconst (v := 1) hx hb dL_law_639 (by decide) ?_
        refine lv_iadd hx hb dL_law_640 ?_
        refine va_sld hx hb hX hbl hbA hW.2.2.1 hc909 dL_law_641 ?_
        refine lv_aload_n hx hb dL_law_642 rfl (lv_at hl 1 rfl) ?_
        refine lv_iload hx hb dL_law_643 (lv_at hl 5 rfl) ?_
        refine lv_iconst (v := 2) hx hb dL_law_645 (by decide) ?_
        refine lv_iadd hx hb dL_law_646 ?_
        refine va_sld hx hb hX hbl hbA hW.2.2.1 hc910 dL_law_647 ?_
        obtain ⟨v923, σ924, hc921, hs⟩ := ww_bn2 hs
        obtain ⟨hkp, hs⟩ := ww_pif hs
        obtain ⟨hx0, hcs⟩ := lx_s hx0 hcs hkp
        refine ww_ci (va_runV (As := [.int (xs (x4 + (1 : Int32)).toNatClampNeg), .int (xs (x4 + (2 : Int32)).toNatClampNeg)]) (rest := []) ⟨hx, hb, hml, hown, hts⟩ (c_X10_fenced g hgm l L σ914 (xs (x4 + (1 : Int32)).toNatClampNeg) (xs (x4 + (2 : Int32)).toNatClampNeg) _ _ hc921) (cwV 2 hts (lw_V q2056 q2057 q2058 q123 q2059) rfl rfl rfl hd_X10_fenced ⟨(Nat.le_of_ble_eq_true rfl), (Nat.le_of_ble_eq_true rfl)⟩) (ww_preV hW (pr_st (hW.rd hgm) (Nat.le_of_ble_eq_true rfl)) (obv_0 rfl) rfl) rfl rfl hl.1 rfl (lv_room (Nat.le_of_ble_eq_true rfl)) dL_law_648 hrm) hW (fun H locs hW => ?_)
        have hc925 : 0 < gN_ σ924 100 := by rw [hkp.1]; exact hc920
        refine lv_istore (lv' := [(6, .int v923), (5, .int v913), (0, .ref b), (1, .ref (L 1 0)), (2, .ref (L 109 0)), (3, .ref (L 100 0)), (4, .int x4)]) hx hb dL_law_651 hl (by decide) rfl (fun ls hl => ?_)
        refine lv_aload_n hx hb dL_law_653 rfl (lv_at hl 4 rfl) ?_
        obtain ⟨v928, hc926, hs⟩ := ww_bnd hs
        refine ww_ci (va_runV (As := []) (rest := []) ⟨hx, hb, hml, hown, hts⟩ (c_X10_thrown g hgm l L σ924  _ hc926) (cwV 0 hts (lw_V q1671 q1672 q1673 q123 q1674) rfl rfl rfl hd_X10_thrown ⟨(Nat.le_of_ble_eq_true rfl), (Nat.le_of_ble_eq_true rfl)⟩) (ww_preV hW (pr_st (hW.rd hgm) (Nat.le_of_ble_eq_true rfl)) (obv_0 rfl) rfl) rfl rfl hl.1 rfl (lv_room (Nat.le_of_ble_eq_true rfl)) dL_law_654 hrm) hW (fun H locs hW => ?_)
        refine lv_iload hx hb dL_law_657 (lv_at hl 1 rfl) ?_
        refine lv_icmp_eq (tgt := 664) hx hb dL_law_659 (by decide) (fun hc929 => ?_) (fun hc929 => ?_)
        · have hs := ww_T hs hc929
          refine lv_iload hx hb dL_law_664 (lv_at hl 1 rfl) ?_
          refine lv_if_ne (tgt := 681) hx hb dL_law_666 (by decide) (fun hc930 => ?_) (fun hc930 => ?_)
          · have hs := ww_F hs hc930
            exact hL681 L σ924 x4 _ _ _ _ ls hx0 hcs hrm hW (lv_sub hl [2, 3, 4, 5, 6] rfl) hs
          · have hs := ww_T hs hc930
            refine lv_aload_n hx hb dL_law_669 rfl (lv_at hl 5 rfl) ?_
            refine lv_iconst (v := 0) hx hb dL_law_670 (by decide) ?_
            refine ww_lald hx hb hW (pr_dy hc925 rfl rfl) (j := (0 : Int32)) (vin_lit rfl) dL_law_671 ?_
            refine lv_iload hx hb dL_law_672 (lv_at hl 0 rfl) ?_
            refine lv_i2l hx hb dL_law_674 rfl ?_
            refine W.lcmp hx hb dL_law_675 ?_
            refine lv_if_eq (tgt := 681) hx hb dL_law_676 (by decide) (fun hc931 => ?_) (fun hc931 => ?_)
            · have hs := ww_T hs hc931
              exact hL681 L σ924 x4 _ _ _ _ ls hx0 hcs hrm hW (lv_sub hl [2, 3, 4, 5, 6] rfl) hs
            · have hs := ww_F hs hc931
              refine lv_iconst (v := 0) hx hb dL_law_679 (by decide) ?_
              have hs := ww_S hs
              exact wl_ret hx hb hr hlocks hW hsz hrm (congrArg Prod.fst hs) hr1 dL_law_680
        · have hs := ww_F hs hc929
          refine lv_iconst (v := 0) hx hb dL_law_662 (by decide) ?_
          have hs := ww_S hs
          exact wl_ret hx hb hr hlocks hW hsz hrm (congrArg Prod.fst hs) hr1 dL_law_663
      have hL524 : ∀ (L : ly_T) (σ : st_T) (x4 : Int32) (H : Heap) (locs : List Loc) (cells slots : Nat) (ls : Array Slot), lext L0 σ0 L σ → bk σ0 σ cells slots → (cells ≤ 1200384 ∧ slots ≤ 5487786) → wv g L σ s H locs → lv_has ls 7 [(0, .ref b), (1, .ref (L 1 0)), (2, .ref (L 109 0)), (3, .ref (L 100 0)), (4, .int x4)] → (m_L_law_L524 N xs (m_L_law_L3445 N xs (m_L_law_L23 N xs n23))) σ x4 = some (r_, σ_) → W p l e (room_1) s m #[Value.ref b] below meth c H locs cells slots (lw_Z below #[Value.ref b] s) (F0 m 524 ls []) := by
        have hL613 : ∀ (L : ly_T) (σ : st_T) (x4 : Int32) (H : Heap) (locs : List Loc) (cells slots : Nat) (ls : Array Slot), lext L0 σ0 L σ → bk σ0 σ cells slots → (cells ≤ 1200384 ∧ slots ≤ 5487786) → wv g L σ s H locs → lv_has ls 7 [(0, .ref b), (1, .ref (L 1 0)), (2, .ref (L 109 0)), (3, .ref (L 100 0)), (4, .int x4)] → (m_L_law_L613 N xs (m_L_law_L3445 N xs (m_L_law_L23 N xs n23))) σ x4 = some (r_, σ_) → W p l e (room_1) s m #[Value.ref b] below meth c H locs cells slots (lw_Z below #[Value.ref b] s) (F0 m 613 ls []) := by
          intro L σ x4 H locs cells slots ls hx0 hcs hrm hW hl hs
          unfold m_L_law_L613 at hs
          refine lv_goto (tgt := 3445) hx hb dL_law_613 (by decide) ?_
          exact hL3445 L σ x4 _ _ _ _ ls hx0 hcs hrm hW (lv_sub hl [0, 1, 2, 3, 4] rfl) hs
        intro L σ x4 H locs cells slots ls hx0 hcs hrm hW hl hs
        unfold m_L_law_L524 at hs
        refine lv_aload_n hx hb dL_law_524 rfl (lv_at hl 1 rfl) ?_
        refine lv_aload_n hx hb dL_law_525 rfl (lv_at hl 0 rfl) ?_
        refine lv_iload hx hb dL_law_526 (lv_at hl 4 rfl) ?_
        refine lv_iconst (v := 1) hx hb dL_law_528 (by decide) ?_
        refine lv_iadd hx hb dL_law_529 ?_
        obtain ⟨hc932, hs⟩ := ww_chk hs
        refine va_sld hx hb hX hbl hbA hW.2.2.1 hc932 dL_law_530 ?_
        refine lv_aload_n hx hb dL_law_531 rfl (lv_at hl 0 rfl) ?_
        refine lv_iload hx hb dL_law_532 (lv_at hl 4 rfl) ?_
        refine lv_iconst (v := 2) hx hb dL_law_534 (by decide) ?_
        refine lv_iadd hx hb dL_law_535 ?_
        obtain ⟨hc933, hs⟩ := ww_chk hs
        refine va_sld hx hb hX hbl hbA hW.2.2.1 hc933 dL_law_536 ?_
        refine lv_aload_n hx hb dL_law_537 rfl (lv_at hl 0 rfl) ?_
        refine lv_iload hx hb dL_law_538 (lv_at hl 4 rfl) ?_
        refine lv_iconst (v := 3) hx hb dL_law_540 (by decide) ?_
        refine lv_iadd hx hb dL_law_541 ?_
        obtain ⟨hc934, hs⟩ := ww_chk hs
        refine va_sld hx hb hX hbl hbA hW.2.2.1 hc934 dL_law_542 ?_
        refine lv_aload_n hx hb dL_law_543 rfl (lv_at hl 0 rfl) ?_
        refine lv_iload hx hb dL_law_544 (lv_at hl 4 rfl) ?_
        refine lv_iconst (v := 4) hx hb dL_law_546 (by decide) ?_
        refine lv_iadd hx hb dL_law_547 ?_
        obtain ⟨hc935, hs⟩ := ww_chk hs
        refine va_sld hx hb hX hbl hbA hW.2.2.1 hc935 dL_law_548 ?_
        refine lv_aload_n hx hb dL_law_549 rfl (lv_at hl 3 rfl) ?_
        obtain ⟨v938, σ939, hc936, hs⟩ := ww_bn2 hs
        have hp940 : pr σ 1 0 := (pr_st (hW.rd hgm) (Nat.le_of_ble_eq_true rfl))
        have hp941 : pr σ 109 0 := (pr_st (hW.rd hgm) (Nat.le_of_ble_eq_true rfl))
        obtain ⟨hc942, hs⟩ := ww_chk hs
        have hp943 : pr σ 100 0 := (pr_dy hc942 rfl rfl)
        obtain ⟨hc944, hs⟩ := ww_chk hs
        obtain ⟨hs, hck⟩ := ww_ck2 hs
        have hrm1 := le2_ (hcs.roomC hc944 hck) hRc
        refine wa_ci (vx_runSW (As := [.ref (L 1 0), .int (xs (x4 + (1 : Int32)).toNatClampNeg), .int (xs (x4 + (2 : Int32)).toNatClampNeg), .int (xs (x4 + (3 : Int32)).toNatClampNeg), .int (xs (x4 + (4 : Int32)).toNatClampNeg), .ref (L 100 0)]) (rest := []) ⟨hx, hb, hml, hown, hts⟩ (c_X0_fence g hgm l L σ (xs (x4 + (1 : Int32)).toNatClampNeg) (xs (x4 + (2 : Int32)).toNatClampNeg) (xs (x4 + (3 : Int32)).toNatClampNeg) (xs (x4 + (4 : Int32)).toNatClampNeg) hst _ _ hc936) (vx_cwSW 6 hts (lw_SW q913 q914 q110 q915) rfl rfl rfl hd_X0_fence.2 ⟨(Nat.le_of_ble_eq_true rfl), (Nat.le_of_ble_eq_true rfl)⟩) (ww_preS hW) rfl rfl hl.1 rfl (lv_room (Nat.le_of_ble_eq_true rfl)) dL_law_550 hrm1) hW (fun H locs L hx1 hW => ?_)
        have hc945 : 0 < gN_ σ939 100 := Nat.lt_of_lt_of_le hc942 (hx1.2.1 100)
        have hcs := hcs.call hc944
        have hrm := hrm1
        have hl : lv_has ls 7 [(0, .ref b), (1, .ref (L 1 0)), (2, .ref (L 109 0)), (3, .ref (L 100 0)), (4, .int x4)] := by rw [hx1.at hp940 (by decide), hx1.at hp941 (by decide), hx1.at hp943 (by decide)]; exact hl
        have hx0 := hx0.trans hx1
        refine lv_istore (lv' := [(5, .int v938), (0, .ref b), (1, .ref (L 1 0)), (2, .ref (L 109 0)), (3, .ref (L 100 0)), (4, .int x4)]) hx hb dL_law_553 hl (by decide) rfl (fun ls hl => ?_)
        refine lv_aload_n hx hb dL_law_555 rfl (lv_at hl 3 rfl) ?_
        refine lv_aload_n hx hb dL_law_556 rfl (lv_at hl 1 rfl) ?_
        refine lv_iload hx hb dL_law_557 (lv_at hl 5 rfl) ?_
        refine lv_iconst (v := 1) hx hb dL_law_559 (by decide) ?_
        refine lv_iadd hx hb dL_law_560 ?_
        refine va_sld hx hb hX hbl hbA hW.2.2.1 hc932 dL_law_561 ?_
        refine lv_aload_n hx hb dL_law_562 rfl (lv_at hl 1 rfl) ?_
        refine lv_iload hx hb dL_law_563 (lv_at hl 5 rfl) ?_
        refine lv_iconst (v := 2) hx hb dL_law_565 (by decide) ?_
        refine lv_iadd hx hb dL_law_566 ?_
        refine va_sld hx hb hX hbl hbA hW.2.2.1 hc933 dL_law_567 ?_
        refine lv_aload_n hx hb dL_law_568 rfl (lv_at hl 1 rfl) ?_
        refine lv_iload hx hb dL_law_569 (lv_at hl 5 rfl) ?_
        refine lv_iconst (v := 3) hx hb dL_law_571 (by decide) ?_
        refine lv_iadd hx hb dL_law_572 ?_
        refine va_sld hx hb hX hbl hbA hW.2.2.1 hc934 dL_law_573 ?_
        refine lv_aload_n hx hb dL_law_574 rfl (lv_at hl 1 rfl) ?_
        refine lv_iload hx hb dL_law_575 (lv_at hl 5 rfl) ?_
        refine lv_iconst (v := 4) hx hb dL_law_577 (by decide) ?_
        refine lv_iadd hx hb dL_law_578 ?_
        refine va_sld hx hb hX hbl hbA hW.2.2.1 hc935 dL_law_579 ?_
        obtain ⟨v948, σ949, hc946, hs⟩ := ww_bn2 hs
        obtain ⟨hkp, hs⟩ := ww_pif hs
        obtain ⟨hx0, hcs⟩ := lx_s hx0 hcs hkp
        refine ww_ci (va_runV (As := [.int (xs (x4 + (1 : Int32)).toNatClampNeg), .int (xs (x4 + (2 : Int32)).toNatClampNeg), .int (xs (x4 + (3 : Int32)).toNatClampNeg), .int (xs (x4 + (4 : Int32)).toNatClampNeg)]) (rest := []) ⟨hx, hb, hml, hown, hts⟩ (c_X10_fence g hgm l L σ939 (xs (x4 + (1 : Int32)).toNatClampNeg) (xs (x4 + (2 : Int32)).toNatClampNeg) (xs (x4 + (3 : Int32)).toNatClampNeg) (xs (x4 + (4 : Int32)).toNatClampNeg) _ _ hc946) (cwV 4 hts (lw_V q2046 q2047 q2048 q123 q2049) rfl rfl rfl hd_X10_fence ⟨(Nat.le_of_ble_eq_true rfl), (Nat.le_of_ble_eq_true rfl)⟩) (ww_preV hW (pr_st (hW.rd hgm) (Nat.le_of_ble_eq_true rfl)) (obv_0 rfl) rfl) rfl rfl hl.1 rfl (lv_room (Nat.le_of_ble_eq_true rfl)) dL_law_580 hrm) hW (fun H locs hW => ?_)
        have hc950 : 0 < gN_ σ949 100 := by rw [hkp.1]; exact hc945
        refine lv_istore (lv' := [(6, .int v948), (5, .int v938), (0, .ref b), (1, .ref (L 1 0)), (2, .ref (L 109 0)), (3, .ref (L 100 0)), (4, .int x4)]) hx hb dL_law_583 hl (by decide) rfl (fun ls hl => ?_)
        refine lv_aload_n hx hb dL_law_585 rfl (lv_at hl 4 rfl) ?_
        obtain ⟨v953, hc951, hs⟩ := ww_bnd hs
        refine ww_ci (va_runV (As := []) (rest := []) ⟨hx, hb, hml, hown, hts⟩ (c_X10_thrown g hgm l L σ949  _ hc951) (cwV 0 hts (lw_V q1671 q1672 q1673 q123 q1674) rfl rfl rfl hd_X10_thrown ⟨(Nat.le_of_ble_eq_true rfl), (Nat.le_of_ble_eq_true rfl)⟩) (ww_preV hW (pr_st (hW.rd hgm) (Nat.le_of_ble_eq_true rfl)) (obv_0 rfl) rfl) rfl rfl hl.1 rfl (lv_room (Nat.le_of_ble_eq_true rfl)) dL_law_586 hrm) hW (fun H locs hW => ?_)
        refine lv_iload hx hb dL_law_589 (lv_at hl 1 rfl) ?_
        refine lv_icmp_eq (tgt := 596) hx hb dL_law_591 (by decide) (fun hc954 => ?_) (fun hc954 => ?_)
        · have hs := ww_T hs hc954
          refine lv_iload hx hb dL_law_596 (lv_at hl 1 rfl) ?_
          refine lv_if_ne (tgt := 613) hx hb dL_law_598 (by decide) (fun hc955 => ?_) (fun hc955 => ?_)
          · have hs := ww_F hs hc955
            exact hL613 L σ949 x4 _ _ _ _ ls hx0 hcs hrm hW (lv_sub hl [2, 3, 4, 5, 6] rfl) hs
          · have hs := ww_T hs hc955
            refine lv_aload_n hx hb dL_law_601 rfl (lv_at hl 5 rfl) ?_
            refine lv_iconst (v := 0) hx hb dL_law_602 (by decide) ?_
            refine ww_lald hx hb hW (pr_dy hc950 rfl rfl) (j := (0 : Int32)) (vin_lit rfl) dL_law_603 ?_
            refine lv_iload hx hb dL_law_604 (lv_at hl 0 rfl) ?_
            refine lv_i2l hx hb dL_law_606 rfl ?_
            refine W.lcmp hx hb dL_law_607 ?_
            refine lv_if_eq (tgt := 613) hx hb dL_law_608 (by decide) (fun hc956 => ?_) (fun hc956 => ?_)
            · have hs := ww_T hs hc956
              exact hL613 L σ949 x4 _ _ _ _ ls hx0 hcs hrm hW (lv_sub hl [2, 3, 4, 5, 6] rfl) hs
            · have hs := ww_F hs hc956
              refine lv_iconst (v := 0) hx hb dL_law_611 (by decide) ?_
              have hs := ww_S hs
              exact wl_ret hx hb hr hlocks hW hsz hrm (congrArg Prod.fst hs) hr1 dL_law_612
        · have hs := ww_F hs hc954
          refine lv_iconst (v := 0) hx hb dL_law_594 (by decide) ?_
          have hs := ww_S hs
          exact wl_ret hx hb hr hlocks hW hsz hrm (congrArg Prod.fst hs) hr1 dL_law_595
      have hL456 : ∀ (L : ly_T) (σ : st_T) (x4 : Int32) (H : Heap) (locs : List Loc) (cells slots : Nat) (ls : Array Slot), lext L0 σ0 L σ → bk σ0 σ cells slots → (cells ≤ 1200384 ∧ slots ≤ 5487786) → wv g L σ s H locs → lv_has ls 7 [(0, .ref b), (1, .ref (L 1 0)), (2, .ref (L 109 0)), (3, .ref (L 100 0)), (4, .int x4)] → (m_L_law_L456 N xs (m_L_law_L3445 N xs (m_L_law_L23 N xs n23))) σ x4 = some (r_, σ_) → W p l e (room_1) s m #[Value.ref b] below meth c H locs cells slots (lw_Z below #[Value.ref b] s) (F0 m 456 ls []) := by
        have hL521 : ∀ (L : ly_T) (σ : st_T) (x4 : Int32) (H : Heap) (locs : List Loc) (cells slots : Nat) (ls : Array Slot), lext L0 σ0 L σ → bk σ0 σ cells slots → (cells ≤ 1200384 ∧ slots ≤ 5487786) → wv g L σ s H locs → lv_has ls 7 [(0, .ref b), (1, .ref (L 1 0)), (2, .ref (L 109 0)), (3, .ref (L 100 0)), (4, .int x4)] → (m_L_law_L521 N xs (m_L_law_L3445 N xs (m_L_law_L23 N xs n23))) σ x4 = some (r_, σ_) → W p l e (room_1) s m #[Value.ref b] below meth c H locs cells slots (lw_Z below #[Value.ref b] s) (F0 m 521 ls []) := by
          intro L σ x4 H locs cells slots ls hx0 hcs hrm hW hl hs
          unfold m_L_law_L521 at hs
          refine lv_goto (tgt := 3445) hx hb dL_law_521 (by decide) ?_
          exact hL3445 L σ x4 _ _ _ _ ls hx0 hcs hrm hW (lv_sub hl [0, 1, 2, 3, 4] rfl) hs
        intro L σ x4 H locs cells slots ls hx0 hcs hrm hW hl hs
        unfold m_L_law_L456 at hs
        refine lv_aload_n hx hb dL_law_456 rfl (lv_at hl 1 rfl) ?_
        refine lv_aload_n hx hb dL_law_457 rfl (lv_at hl 0 rfl) ?_
        refine lv_iload hx hb dL_law_458 (lv_at hl 4 rfl) ?_
        refine lv_iconst (v := 1) hx hb dL_law_460 (by decide) ?_
        refine lv_iadd hx hb dL_law_461 ?_
        obtain ⟨hc957, hs⟩ := ww_chk hs
        refine va_sld hx hb hX hbl hbA hW.2.2.1 hc957 dL_law_462 ?_
        refine lv_aload_n hx hb dL_law_463 rfl (lv_at hl 0 rfl) ?_
        refine lv_iload hx hb dL_law_464 (lv_at hl 4 rfl) ?_
        refine lv_iconst (v := 2) hx hb dL_law_466 (by decide) ?_
        refine lv_iadd hx hb dL_law_467 ?_
        obtain ⟨hc958, hs⟩ := ww_chk hs
        refine va_sld hx hb hX hbl hbA hW.2.2.1 hc958 dL_law_468 ?_
        refine lv_aload_n hx hb dL_law_469 rfl (lv_at hl 3 rfl) ?_
        obtain ⟨v961, σ962, hc959, hs⟩ := ww_bn2 hs
        have hp963 : pr σ 1 0 := (pr_st (hW.rd hgm) (Nat.le_of_ble_eq_true rfl))
        have hp964 : pr σ 109 0 := (pr_st (hW.rd hgm) (Nat.le_of_ble_eq_true rfl))
        obtain ⟨hc965, hs⟩ := ww_chk hs
        have hp966 : pr σ 100 0 := (pr_dy hc965 rfl rfl)
        obtain ⟨hc967, hs⟩ := ww_chk hs
        obtain ⟨hs, hck⟩ := ww_ck2 hs
        have hrm1 := le2_ (hcs.roomC hc967 hck) hRc
        refine wa_ci (vx_runSW (As := [.ref (L 1 0), .int (xs (x4 + (1 : Int32)).toNatClampNeg), .int (xs (x4 + (2 : Int32)).toNatClampNeg), .ref (L 100 0)]) (rest := []) ⟨hx, hb, hml, hown, hts⟩ (c_X0_village g hgm l L σ (xs (x4 + (1 : Int32)).toNatClampNeg) (xs (x4 + (2 : Int32)).toNatClampNeg) hst _ _ hc959) (vx_cwSW 4 hts (lw_SW q906 q907 q110 q908) rfl rfl rfl hd_X0_village.2 ⟨(Nat.le_of_ble_eq_true rfl), (Nat.le_of_ble_eq_true rfl)⟩) (ww_preS hW) rfl rfl hl.1 rfl (lv_room (Nat.le_of_ble_eq_true rfl)) dL_law_470 hrm1) hW (fun H locs L hx1 hW => ?_)
        have hc968 : 0 < gN_ σ962 100 := Nat.lt_of_lt_of_le hc965 (hx1.2.1 100)
        have hcs := hcs.call hc967
        have hrm := hrm1
        have hl : lv_has ls 7 [(0, .ref b), (1, .ref (L 1 0)), (2, .ref (L 109 0)), (3, .ref (L 100 0)), (4, .int x4)] := by rw [hx1.at hp963 (by decide), hx1.at hp964 (by decide), hx1.at hp966 (by decide)]; exact hl
        have hx0 := hx0.trans hx1
        refine lv_istore (lv' := [(5, .int v961), (0, .ref b), (1, .ref (L 1 0)), (2, .ref (L 109 0)), (3, .ref (L 100 0)), (4, .int x4)]) hx hb dL_law_473 hl (by decide) rfl (fun ls hl => ?_)
        refine lv_aload_n hx hb dL_law_475 rfl (lv_at hl 3 rfl) ?_
        refine lv_aload_n hx hb dL_law_476 rfl (lv_at hl 1 rfl) ?_
        refine lv_iload hx hb dL_law_477 (lv_at hl 5 rfl) ?_
        refine lv_iconst (v := 1) hx hb dL_law_479 (by decide) ?_
        refine lv_iadd hx hb dL_law_480 ?_
        refine va_sld hx hb hX hbl hbA hW.2.2.1 hc957 dL_law_481 ?_
        refine lv_aload_n hx hb dL_law_482 rfl (lv_at hl 1 rfl) ?_
        refine lv_iload hx hb dL_law_483 (lv_at hl 5 rfl) ?_
        refine lv_iconst (v := 2) hx hb dL_law_485 (by decide) ?_
        refine lv_iadd hx hb dL_law_486 ?_
        refine va_sld hx hb hX hbl hbA hW.2.2.1 hc958 dL_law_487 ?_
        obtain ⟨v971, σ972, hc969, hs⟩ := ww_bn2 hs
        obtain ⟨hkp, hs⟩ := ww_pif hs
        obtain ⟨hx0, hcs⟩ := lx_s hx0 hcs hkp
        refine ww_ci (va_runV (As := [.int (xs (x4 + (1 : Int32)).toNatClampNeg), .int (xs (x4 + (2 : Int32)).toNatClampNeg)]) (rest := []) ⟨hx, hb, hml, hown, hts⟩ (c_X10_village g hgm l L σ962 (xs (x4 + (1 : Int32)).toNatClampNeg) (xs (x4 + (2 : Int32)).toNatClampNeg) _ _ hc969) (cwV 2 hts (lw_V q2042 q2043 q2044 q123 q2045) rfl rfl rfl hd_X10_village ⟨(Nat.le_of_ble_eq_true rfl), (Nat.le_of_ble_eq_true rfl)⟩) (ww_preV hW (pr_st (hW.rd hgm) (Nat.le_of_ble_eq_true rfl)) (obv_0 rfl) rfl) rfl rfl hl.1 rfl (lv_room (Nat.le_of_ble_eq_true rfl)) dL_law_488 hrm) hW (fun H locs hW => ?_)
        have hc973 : 0 < gN_ σ972 100 := by rw [hkp.1]; exact hc968
        refine lv_istore (lv' := [(6, .int v971), (5, .int v961), (0, .ref b), (1, .ref (L 1 0)), (2, .ref (L 109 0)), (3, .ref (L 100 0)), (4, .int x4)]) hx hb dL_law_491 hl (by decide) rfl (fun ls hl => ?_)
        refine lv_aload_n hx hb dL_law_493 rfl (lv_at hl 4 rfl) ?_
        obtain ⟨v976, hc974, hs⟩ := ww_bnd hs
        refine ww_ci (va_runV (As := []) (rest := []) ⟨hx, hb, hml, hown, hts⟩ (c_X10_thrown g hgm l L σ972  _ hc974) (cwV 0 hts (lw_V q1671 q1672 q1673 q123 q1674) rfl rfl rfl hd_X10_thrown ⟨(Nat.le_of_ble_eq_true rfl), (Nat.le_of_ble_eq_true rfl)⟩) (ww_preV hW (pr_st (hW.rd hgm) (Nat.le_of_ble_eq_true rfl)) (obv_0 rfl) rfl) rfl rfl hl.1 rfl (lv_room (Nat.le_of_ble_eq_true rfl)) dL_law_494 hrm) hW (fun H locs hW => ?_)
        refine lv_iload hx hb dL_law_497 (lv_at hl 1 rfl) ?_
        refine lv_icmp_eq (tgt := 504) hx hb dL_law_499 (by decide) (fun hc977 => ?_) (fun hc977 => ?_)
        · have hs := ww_T hs hc977
          refine lv_iload hx hb dL_law_504 (lv_at hl 1 rfl) ?_
          refine lv_if_ne (tgt := 521) hx hb dL_law_506 (by decide) (fun hc978 => ?_) (fun hc978 => ?_)
          · have hs := ww_F hs hc978
            exact hL521 L σ972 x4 _ _ _ _ ls hx0 hcs hrm hW (lv_sub hl [2, 3, 4, 5, 6] rfl) hs
          · have hs := ww_T hs hc978
            refine lv_aload_n hx hb dL_law_509 rfl (lv_at hl 5 rfl) ?_
            refine lv_iconst (v := 0) hx hb dL_law_510 (by decide) ?_
            refine ww_lald hx hb hW (pr_dy hc973 rfl rfl) (j := (0 : Int32)) (vin_lit rfl) dL_law_511 ?_
            refine lv_iload hx hb dL_law_512 (lv_at hl 0 rfl) ?_
            refine lv_i2l hx hb dL_law_514 rfl ?_
            refine W.lcmp hx hb dL_law_515 ?_
            refine lv_if_eq (tgt := 521) hx hb dL_law_516 (by decide) (fun hc979 => ?_) (fun hc979 => ?_)
            · have hs := ww_T hs hc979
              exact hL521 L σ972 x4 _ _ _ _ ls hx0 hcs hrm hW (lv_sub hl [2, 3, 4, 5, 6] rfl) hs
            · have hs := ww_F hs hc979
              refine lv_iconst (v := 0) hx hb dL_law_519 (by decide) ?_
              have hs := ww_S hs
              exact wl_ret hx hb hr hlocks hW hsz hrm (congrArg Prod.fst hs) hr1 dL_law_520
        · have hs := ww_F hs hc977
          refine lv_iconst (v := 0) hx hb dL_law_502 (by decide) ?_
          have hs := ww_S hs
          exact wl_ret hx hb hr hlocks hW hsz hrm (congrArg Prod.fst hs) hr1 dL_law_503
      have hL400 : ∀ (L : ly_T) (σ : st_T) (x4 : Int32) (H : Heap) (locs : List Loc) (cells slots : Nat) (ls : Array Slot), lext L0 σ0 L σ → bk σ0 σ cells slots → (cells ≤ 1200384 ∧ slots ≤ 5487786) → wv g L σ s H locs → lv_has ls 7 [(0, .ref b), (1, .ref (L 1 0)), (2, .ref (L 109 0)), (3, .ref (L 100 0)), (4, .int x4)] → (m_L_law_L400 N xs (m_L_law_L3445 N xs (m_L_law_L23 N xs n23))) σ x4 = some (r_, σ_) → W p l e (room_1) s m #[Value.ref b] below meth c H locs cells slots (lw_Z below #[Value.ref b] s) (F0 m 400 ls []) := by
        have hL453 : ∀ (L : ly_T) (σ : st_T) (x4 : Int32) (H : Heap) (locs : List Loc) (cells slots : Nat) (ls : Array Slot), lext L0 σ0 L σ → bk σ0 σ cells slots → (cells ≤ 1200384 ∧ slots ≤ 5487786) → wv g L σ s H locs → lv_has ls 7 [(0, .ref b), (1, .ref (L 1 0)), (2, .ref (L 109 0)), (3, .ref (L 100 0)), (4, .int x4)] → (m_L_law_L453 N xs (m_L_law_L3445 N xs (m_L_law_L23 N xs n23))) σ x4 = some (r_, σ_) → W p l e (room_1) s m #[Value.ref b] below meth c H locs cells slots (lw_Z below #[Value.ref b] s) (F0 m 453 ls []) := by
          intro L σ x4 H locs cells slots ls hx0 hcs hrm hW hl hs
          unfold m_L_law_L453 at hs
          refine lv_goto (tgt := 3445) hx hb dL_law_453 (by decide) ?_
          exact hL3445 L σ x4 _ _ _ _ ls hx0 hcs hrm hW (lv_sub hl [0, 1, 2, 3, 4] rfl) hs
        intro L σ x4 H locs cells slots ls hx0 hcs hrm hW hl hs
        unfold m_L_law_L400 at hs
        refine lv_aload_n hx hb dL_law_400 rfl (lv_at hl 1 rfl) ?_
        refine lv_aload_n hx hb dL_law_401 rfl (lv_at hl 0 rfl) ?_
        refine lv_iload hx hb dL_law_402 (lv_at hl 4 rfl) ?_
        refine lv_iconst (v := 1) hx hb dL_law_404 (by decide) ?_
        refine lv_iadd hx hb dL_law_405 ?_
        obtain ⟨hc980, hs⟩ := ww_chk hs
        refine va_sld hx hb hX hbl hbA hW.2.2.1 hc980 dL_law_406 ?_
        refine lv_aload_n hx hb dL_law_407 rfl (lv_at hl 3 rfl) ?_
        obtain ⟨v983, σ984, hc981, hs⟩ := ww_bn2 hs
        have hp985 : pr σ 1 0 := (pr_st (hW.rd hgm) (Nat.le_of_ble_eq_true rfl))
        have hp986 : pr σ 109 0 := (pr_st (hW.rd hgm) (Nat.le_of_ble_eq_true rfl))
        obtain ⟨hc987, hs⟩ := ww_chk hs
        have hp988 : pr σ 100 0 := (pr_dy hc987 rfl rfl)
        obtain ⟨hc989, hs⟩ := ww_chk hs
        obtain ⟨hs, hck⟩ := ww_ck2 hs
        have hrm1 := le2_ (hcs.roomC hc989 hck) hRc
        refine wa_ci (vx_runSW (As := [.ref (L 1 0), .int (xs (x4 + (1 : Int32)).toNatClampNeg), .ref (L 100 0)]) (rest := []) ⟨hx, hb, hml, hown, hts⟩ (c_X0_stalks g hgm l L σ (xs (x4 + (1 : Int32)).toNatClampNeg) hst _ _ hc981) (vx_cwSW 3 hts (lw_SW q899 q900 q110 q901) rfl rfl rfl hd_X0_stalks.2 ⟨(Nat.le_of_ble_eq_true rfl), (Nat.le_of_ble_eq_true rfl)⟩) (ww_preS hW) rfl rfl hl.1 rfl (lv_room (Nat.le_of_ble_eq_true rfl)) dL_law_408 hrm1) hW (fun H locs L hx1 hW => ?_)
        have hc990 : 0 < gN_ σ984 100 := Nat.lt_of_lt_of_le hc987 (hx1.2.1 100)
        have hcs := hcs.call hc989
        have hrm := hrm1
        have hl : lv_has ls 7 [(0, .ref b), (1, .ref (L 1 0)), (2, .ref (L 109 0)), (3, .ref (L 100 0)), (4, .int x4)] := by rw [hx1.at hp985 (by decide), hx1.at hp986 (by decide), hx1.at hp988 (by decide)]; exact hl
        have hx0 := hx0.trans hx1
        refine lv_istore (lv' := [(5, .int v983), (0, .ref b), (1, .ref (L 1 0)), (2, .ref (L 109 0)), (3, .ref (L 100 0)), (4, .int x4)]) hx hb dL_law_411 hl (by decide) rfl (fun ls hl => ?_)
        refine lv_aload_n hx hb dL_law_413 rfl (lv_at hl 3 rfl) ?_
        refine lv_aload_n hx hb dL_law_414 rfl (lv_at hl 1 rfl) ?_
        refine lv_iload hx hb dL_law_415 (lv_at hl 5 rfl) ?_
        refine lv_iconst (v := 1) hx hb dL_law_417 (by decide) ?_
        refine lv_iadd hx hb dL_law_418 ?_
        refine va_sld hx hb hX hbl hbA hW.2.2.1 hc980 dL_law_419 ?_
        obtain ⟨v993, σ994, hc991, hs⟩ := ww_bn2 hs
        obtain ⟨hkp, hs⟩ := ww_pif hs
        obtain ⟨hx0, hcs⟩ := lx_s hx0 hcs hkp
        refine ww_ci (va_runV (As := [.int (xs (x4 + (1 : Int32)).toNatClampNeg)]) (rest := []) ⟨hx, hb, hml, hown, hts⟩ (c_X10_stalks g hgm l L σ984 (xs (x4 + (1 : Int32)).toNatClampNeg) _ _ hc991) (cwV 1 hts (lw_V q2038 q2039 q2040 q123 q2041) rfl rfl rfl hd_X10_stalks ⟨(Nat.le_of_ble_eq_true rfl), (Nat.le_of_ble_eq_true rfl)⟩) (ww_preV hW (pr_st (hW.rd hgm) (Nat.le_of_ble_eq_true rfl)) (obv_0 rfl) rfl) rfl rfl hl.1 rfl (lv_room (Nat.le_of_ble_eq_true rfl)) dL_law_420 hrm) hW (fun H locs hW => ?_)
        have hc995 : 0 < gN_ σ994 100 := by rw [hkp.1]; exact hc990
        refine lv_istore (lv' := [(6, .int v993), (5, .int v983), (0, .ref b), (1, .ref (L 1 0)), (2, .ref (L 109 0)), (3, .ref (L 100 0)), (4, .int x4)]) hx hb dL_law_423 hl (by decide) rfl (fun ls hl => ?_)
        refine lv_aload_n hx hb dL_law_425 rfl (lv_at hl 4 rfl) ?_
        obtain ⟨v998, hc996, hs⟩ := ww_bnd hs
        refine ww_ci (va_runV (As := []) (rest := []) ⟨hx, hb, hml, hown, hts⟩ (c_X10_thrown g hgm l L σ994  _ hc996) (cwV 0 hts (lw_V q1671 q1672 q1673 q123 q1674) rfl rfl rfl hd_X10_thrown ⟨(Nat.le_of_ble_eq_true rfl), (Nat.le_of_ble_eq_true rfl)⟩) (ww_preV hW (pr_st (hW.rd hgm) (Nat.le_of_ble_eq_true rfl)) (obv_0 rfl) rfl) rfl rfl hl.1 rfl (lv_room (Nat.le_of_ble_eq_true rfl)) dL_law_426 hrm) hW (fun H locs hW => ?_)
        refine lv_iload hx hb dL_law_429 (lv_at hl 1 rfl) ?_
        refine lv_icmp_eq (tgt := 436) hx hb dL_law_431 (by decide) (fun hc999 => ?_) (fun hc999 => ?_)
        · have hs := ww_T hs hc999
          refine lv_iload hx hb dL_law_436 (lv_at hl 1 rfl) ?_
          refine lv_if_ne (tgt := 453) hx hb dL_law_438 (by decide) (fun hc1000 => ?_) (fun hc1000 => ?_)
          · have hs := ww_F hs hc1000
            exact hL453 L σ994 x4 _ _ _ _ ls hx0 hcs hrm hW (lv_sub hl [2, 3, 4, 5, 6] rfl) hs
          · have hs := ww_T hs hc1000
            refine lv_aload_n hx hb dL_law_441 rfl (lv_at hl 5 rfl) ?_
            refine lv_iconst (v := 0) hx hb dL_law_442 (by decide) ?_
            refine ww_lald hx hb hW (pr_dy hc995 rfl rfl) (j := (0 : Int32)) (vin_lit rfl) dL_law_443 ?_
            refine lv_iload hx hb dL_law_444 (lv_at hl 0 rfl) ?_
            refine lv_i2l hx hb dL_law_446 rfl ?_
            refine W.lcmp hx hb dL_law_447 ?_
            refine lv_if_eq (tgt := 453) hx hb dL_law_448 (by decide) (fun hc1001 => ?_) (fun hc1001 => ?_)
            · have hs := ww_T hs hc1001
              exact hL453 L σ994 x4 _ _ _ _ ls hx0 hcs hrm hW (lv_sub hl [2, 3, 4, 5, 6] rfl) hs
            · have hs := ww_F hs hc1001
              refine lv_iconst (v := 0) hx hb dL_law_451 (by decide) ?_
              have hs := ww_S hs
              exact wl_ret hx hb hr hlocks hW hsz hrm (congrArg Prod.fst hs) hr1 dL_law_452
        · have hs := ww_F hs hc999
          refine lv_iconst (v := 0) hx hb dL_law_434 (by decide) ?_
          have hs := ww_S hs
          exact wl_ret hx hb hr hlocks hW hsz hrm (congrArg Prod.fst hs) hr1 dL_law_435
      have hL308 : ∀ (L : ly_T) (σ : st_T) (x4 : Int32) (H : Heap) (locs : List Loc) (cells slots : Nat) (ls : Array Slot), lext L0 σ0 L σ → bk σ0 σ cells slots → (cells ≤ 1200384 ∧ slots ≤ 5487786) → wv g L σ s H locs → lv_has ls 7 [(0, .ref b), (1, .ref (L 1 0)), (2, .ref (L 109 0)), (3, .ref (L 100 0)), (4, .int x4)] → (m_L_law_L308 N xs (m_L_law_L3445 N xs (m_L_law_L23 N xs n23))) σ x4 = some (r_, σ_) → W p l e (room_1) s m #[Value.ref b] below meth c H locs cells slots (lw_Z below #[Value.ref b] s) (F0 m 308 ls []) := by
        have hL397 : ∀ (L : ly_T) (σ : st_T) (x4 : Int32) (H : Heap) (locs : List Loc) (cells slots : Nat) (ls : Array Slot), lext L0 σ0 L σ → bk σ0 σ cells slots → (cells ≤ 1200384 ∧ slots ≤ 5487786) → wv g L σ s H locs → lv_has ls 7 [(0, .ref b), (1, .ref (L 1 0)), (2, .ref (L 109 0)), (3, .ref (L 100 0)), (4, .int x4)] → (m_L_law_L397 N xs (m_L_law_L3445 N xs (m_L_law_L23 N xs n23))) σ x4 = some (r_, σ_) → W p l e (room_1) s m #[Value.ref b] below meth c H locs cells slots (lw_Z below #[Value.ref b] s) (F0 m 397 ls []) := by
          intro L σ x4 H locs cells slots ls hx0 hcs hrm hW hl hs
          unfold m_L_law_L397 at hs
          refine lv_goto (tgt := 3445) hx hb dL_law_397 (by decide) ?_
          exact hL3445 L σ x4 _ _ _ _ ls hx0 hcs hrm hW (lv_sub hl [0, 1, 2, 3, 4] rfl) hs
        intro L σ x4 H locs cells slots ls hx0 hcs hrm hW hl hs
        unfold m_L_law_L308 at hs
        refine lv_aload_n hx hb dL_law_308 rfl (lv_at hl 1 rfl) ?_
        refine lv_aload_n hx hb dL_law_309 rfl (lv_at hl 0 rfl) ?_
        refine lv_iload hx hb dL_law_310 (lv_at hl 4 rfl) ?_
        refine lv_iconst (v := 1) hx hb dL_law_312 (by decide) ?_
        refine lv_iadd hx hb dL_law_313 ?_
        obtain ⟨hc1002, hs⟩ := ww_chk hs
        refine va_sld hx hb hX hbl hbA hW.2.2.1 hc1002 dL_law_314 ?_
        refine lv_aload_n hx hb dL_law_315 rfl (lv_at hl 0 rfl) ?_
        refine lv_iload hx hb dL_law_316 (lv_at hl 4 rfl) ?_
        refine lv_iconst (v := 2) hx hb dL_law_318 (by decide) ?_
        refine lv_iadd hx hb dL_law_319 ?_
        obtain ⟨hc1003, hs⟩ := ww_chk hs
        refine va_sld hx hb hX hbl hbA hW.2.2.1 hc1003 dL_law_320 ?_
        refine lv_aload_n hx hb dL_law_321 rfl (lv_at hl 0 rfl) ?_
        refine lv_iload hx hb dL_law_322 (lv_at hl 4 rfl) ?_
        refine lv_iconst (v := 3) hx hb dL_law_324 (by decide) ?_
        refine lv_iadd hx hb dL_law_325 ?_
        obtain ⟨hc1004, hs⟩ := ww_chk hs
        refine va_sld hx hb hX hbl hbA hW.2.2.1 hc1004 dL_law_326 ?_
        refine lv_aload_n hx hb dL_law_327 rfl (lv_at hl 0 rfl) ?_
        refine lv_iload hx hb dL_law_328 (lv_at hl 4 rfl) ?_
        refine lv_iconst (v := 4) hx hb dL_law_330 (by decide) ?_
        refine lv_iadd hx hb dL_law_331 ?_
        obtain ⟨hc1005, hs⟩ := ww_chk hs
        refine va_sld hx hb hX hbl hbA hW.2.2.1 hc1005 dL_law_332 ?_
        refine lv_aload_n hx hb dL_law_333 rfl (lv_at hl 3 rfl) ?_
        obtain ⟨v1008, σ1009, hc1006, hs⟩ := ww_bn2 hs
        have hp1010 : pr σ 1 0 := (pr_st (hW.rd hgm) (Nat.le_of_ble_eq_true rfl))
        have hp1011 : pr σ 109 0 := (pr_st (hW.rd hgm) (Nat.le_of_ble_eq_true rfl))
        obtain ⟨hc1012, hs⟩ := ww_chk hs
        have hp1013 : pr σ 100 0 := (pr_dy hc1012 rfl rfl)
        obtain ⟨hc1014, hs⟩ := ww_chk hs
        obtain ⟨hs, hck⟩ := ww_ck2 hs
        have hrm1 := le2_ (hcs.roomC hc1014 hck) hRc
        refine wa_ci (vx_runSW (As := [.ref (L 1 0), .int (xs (x4 + (1 : Int32)).toNatClampNeg), .int (xs (x4 + (2 : Int32)).toNatClampNeg), .int (xs (x4 + (3 : Int32)).toNatClampNeg), .int (xs (x4 + (4 : Int32)).toNatClampNeg), .ref (L 100 0)]) (rest := []) ⟨hx, hb, hml, hown, hts⟩ (c_X0_field g hgm l L σ (xs (x4 + (1 : Int32)).toNatClampNeg) (xs (x4 + (2 : Int32)).toNatClampNeg) (xs (x4 + (3 : Int32)).toNatClampNeg) (xs (x4 + (4 : Int32)).toNatClampNeg) hst _ _ hc1006) (vx_cwSW 6 hts (lw_SW q889 q890 q110 q891) rfl rfl rfl hd_X0_field.2 ⟨(Nat.le_of_ble_eq_true rfl), (Nat.le_of_ble_eq_true rfl)⟩) (ww_preS hW) rfl rfl hl.1 rfl (lv_room (Nat.le_of_ble_eq_true rfl)) dL_law_334 hrm1) hW (fun H locs L hx1 hW => ?_)
        have hc1015 : 0 < gN_ σ1009 100 := Nat.lt_of_lt_of_le hc1012 (hx1.2.1 100)
        have hcs := hcs.call hc1014
        have hrm := hrm1
        have hl : lv_has ls 7 [(0, .ref b), (1, .ref (L 1 0)), (2, .ref (L 109 0)), (3, .ref (L 100 0)), (4, .int x4)] := by rw [hx1.at hp1010 (by decide), hx1.at hp1011 (by decide), hx1.at hp1013 (by decide)]; exact hl
        have hx0 := hx0.trans hx1
        refine lv_istore (lv' := [(5, .int v1008), (0, .ref b), (1, .ref (L 1 0)), (2, .ref (L 109 0)), (3, .ref (L 100 0)), (4, .int x4)]) hx hb dL_law_337 hl (by decide) rfl (fun ls hl => ?_)
        refine lv_aload_n hx hb dL_law_339 rfl (lv_at hl 3 rfl) ?_
        refine lv_aload_n hx hb dL_law_340 rfl (lv_at hl 1 rfl) ?_
        refine lv_iload hx hb dL_law_341 (lv_at hl 5 rfl) ?_
        refine lv_iconst (v := 1) hx hb dL_law_343 (by decide) ?_
        refine lv_iadd hx hb dL_law_344 ?_
        refine va_sld hx hb hX hbl hbA hW.2.2.1 hc1002 dL_law_345 ?_
        refine lv_aload_n hx hb dL_law_346 rfl (lv_at hl 1 rfl) ?_
        refine lv_iload hx hb dL_law_347 (lv_at hl 5 rfl) ?_
        refine lv_iconst (v := 2) hx hb dL_law_349 (by decide) ?_
        refine lv_iadd hx hb dL_law_350 ?_
        refine va_sld hx hb hX hbl hbA hW.2.2.1 hc1003 dL_law_351 ?_
        refine lv_aload_n hx hb dL_law_352 rfl (lv_at hl 1 rfl) ?_
        refine lv_iload hx hb dL_law_353 (lv_at hl 5 rfl) ?_
        refine lv_iconst (v := 3) hx hb dL_law_355 (by decide) ?_
        refine lv_iadd hx hb dL_law_356 ?_
        refine va_sld hx hb hX hbl hbA hW.2.2.1 hc1004 dL_law_357 ?_
        refine lv_aload_n hx hb dL_law_358 rfl (lv_at hl 1 rfl) ?_
        refine lv_iload hx hb dL_law_359 (lv_at hl 5 rfl) ?_
        refine lv_iconst (v := 4) hx hb dL_law_361 (by decide) ?_
        refine lv_iadd hx hb dL_law_362 ?_
        refine va_sld hx hb hX hbl hbA hW.2.2.1 hc1005 dL_law_363 ?_
        obtain ⟨v1018, σ1019, hc1016, hs⟩ := ww_bn2 hs
        obtain ⟨hkp, hs⟩ := ww_pif hs
        obtain ⟨hx0, hcs⟩ := lx_s hx0 hcs hkp
        refine ww_ci (va_runV (As := [.int (xs (x4 + (1 : Int32)).toNatClampNeg), .int (xs (x4 + (2 : Int32)).toNatClampNeg), .int (xs (x4 + (3 : Int32)).toNatClampNeg), .int (xs (x4 + (4 : Int32)).toNatClampNeg)]) (rest := []) ⟨hx, hb, hml, hown, hts⟩ (c_X10_field g hgm l L σ1009 (xs (x4 + (1 : Int32)).toNatClampNeg) (xs (x4 + (2 : Int32)).toNatClampNeg) (xs (x4 + (3 : Int32)).toNatClampNeg) (xs (x4 + (4 : Int32)).toNatClampNeg) _ _ hc1016) (cwV 4 hts (lw_V q2034 q2035 q2036 q123 q2037) rfl rfl rfl hd_X10_field ⟨(Nat.le_of_ble_eq_true rfl), (Nat.le_of_ble_eq_true rfl)⟩) (ww_preV hW (pr_st (hW.rd hgm) (Nat.le_of_ble_eq_true rfl)) (obv_0 rfl) rfl) rfl rfl hl.1 rfl (lv_room (Nat.le_of_ble_eq_true rfl)) dL_law_364 hrm) hW (fun H locs hW => ?_)
        have hc1020 : 0 < gN_ σ1019 100 := by rw [hkp.1]; exact hc1015
        refine lv_istore (lv' := [(6, .int v1018), (5, .int v1008), (0, .ref b), (1, .ref (L 1 0)), (2, .ref (L 109 0)), (3, .ref (L 100 0)), (4, .int x4)]) hx hb dL_law_367 hl (by decide) rfl (fun ls hl => ?_)
        refine lv_aload_n hx hb dL_law_369 rfl (lv_at hl 4 rfl) ?_
        obtain ⟨v1023, hc1021, hs⟩ := ww_bnd hs
        refine ww_ci (va_runV (As := []) (rest := []) ⟨hx, hb, hml, hown, hts⟩ (c_X10_thrown g hgm l L σ1019  _ hc1021) (cwV 0 hts (lw_V q1671 q1672 q1673 q123 q1674) rfl rfl rfl hd_X10_thrown ⟨(Nat.le_of_ble_eq_true rfl), (Nat.le_of_ble_eq_true rfl)⟩) (ww_preV hW (pr_st (hW.rd hgm) (Nat.le_of_ble_eq_true rfl)) (obv_0 rfl) rfl) rfl rfl hl.1 rfl (lv_room (Nat.le_of_ble_eq_true rfl)) dL_law_370 hrm) hW (fun H locs hW => ?_)
        refine lv_iload hx hb dL_law_373 (lv_at hl 1 rfl) ?_
        refine lv_icmp_eq (tgt := 380) hx hb dL_law_375 (by decide) (fun hc1024 => ?_) (fun hc1024 => ?_)
        · have hs := ww_T hs hc1024
          refine lv_iload hx hb dL_law_380 (lv_at hl 1 rfl) ?_
          refine lv_if_ne (tgt := 397) hx hb dL_law_382 (by decide) (fun hc1025 => ?_) (fun hc1025 => ?_)
          · have hs := ww_F hs hc1025
            exact hL397 L σ1019 x4 _ _ _ _ ls hx0 hcs hrm hW (lv_sub hl [2, 3, 4, 5, 6] rfl) hs
          · have hs := ww_T hs hc1025
            refine lv_aload_n hx hb dL_law_385 rfl (lv_at hl 5 rfl) ?_
            refine lv_iconst (v := 0) hx hb dL_law_386 (by decide) ?_
            refine ww_lald hx hb hW (pr_dy hc1020 rfl rfl) (j := (0 : Int32)) (vin_lit rfl) dL_law_387 ?_
            refine lv_iload hx hb dL_law_388 (lv_at hl 0 rfl) ?_
            refine lv_i2l hx hb dL_law_390 rfl ?_
            refine W.lcmp hx hb dL_law_391 ?_
            refine lv_if_eq (tgt := 397) hx hb dL_law_392 (by decide) (fun hc1026 => ?_) (fun hc1026 => ?_)
            · have hs := ww_T hs hc1026
              exact hL397 L σ1019 x4 _ _ _ _ ls hx0 hcs hrm hW (lv_sub hl [2, 3, 4, 5, 6] rfl) hs
            · have hs := ww_F hs hc1026
              refine lv_iconst (v := 0) hx hb dL_law_395 (by decide) ?_
              have hs := ww_S hs
              exact wl_ret hx hb hr hlocks hW hsz hrm (congrArg Prod.fst hs) hr1 dL_law_396
        · have hs := ww_F hs hc1024
          refine lv_iconst (v := 0) hx hb dL_law_378 (by decide) ?_
          have hs := ww_S hs
          exact wl_ret hx hb hr hlocks hW hsz hrm (congrArg Prod.fst hs) hr1 dL_law_379
      have hL240 : ∀ (L : ly_T) (σ : st_T) (x4 : Int32) (H : Heap) (locs : List Loc) (cells slots : Nat) (ls : Array Slot), lext L0 σ0 L σ → bk σ0 σ cells slots → (cells ≤ 1200384 ∧ slots ≤ 5487786) → wv g L σ s H locs → lv_has ls 7 [(0, .ref b), (1, .ref (L 1 0)), (2, .ref (L 109 0)), (3, .ref (L 100 0)), (4, .int x4)] → (m_L_law_L240 N xs (m_L_law_L3445 N xs (m_L_law_L23 N xs n23))) σ x4 = some (r_, σ_) → W p l e (room_1) s m #[Value.ref b] below meth c H locs cells slots (lw_Z below #[Value.ref b] s) (F0 m 240 ls []) := by
        have hL305 : ∀ (L : ly_T) (σ : st_T) (x4 : Int32) (H : Heap) (locs : List Loc) (cells slots : Nat) (ls : Array Slot), lext L0 σ0 L σ → bk σ0 σ cells slots → (cells ≤ 1200384 ∧ slots ≤ 5487786) → wv g L σ s H locs → lv_has ls 7 [(0, .ref b), (1, .ref (L 1 0)), (2, .ref (L 109 0)), (3, .ref (L 100 0)), (4, .int x4)] → (m_L_law_L305 N xs (m_L_law_L3445 N xs (m_L_law_L23 N xs n23))) σ x4 = some (r_, σ_) → W p l e (room_1) s m #[Value.ref b] below meth c H locs cells slots (lw_Z below #[Value.ref b] s) (F0 m 305 ls []) := by
          intro L σ x4 H locs cells slots ls hx0 hcs hrm hW hl hs
          unfold m_L_law_L305 at hs
          refine lv_goto (tgt := 3445) hx hb dL_law_305 (by decide) ?_
          exact hL3445 L σ x4 _ _ _ _ ls hx0 hcs hrm hW (lv_sub hl [0, 1, 2, 3, 4] rfl) hs
        intro L σ x4 H locs cells slots ls hx0 hcs hrm hW hl hs
        unfold m_L_law_L240 at hs
        refine lv_aload_n hx hb dL_law_240 rfl (lv_at hl 1 rfl) ?_
        refine lv_aload_n hx hb dL_law_241 rfl (lv_at hl 0 rfl) ?_
        refine lv_iload hx hb dL_law_242 (lv_at hl 4 rfl) ?_
        refine lv_iconst (v := 1) hx hb dL_law_244 (by decide) ?_
        refine lv_iadd hx hb dL_law_245 ?_
        obtain ⟨hc1027, hs⟩ := ww_chk hs
        refine va_sld hx hb hX hbl hbA hW.2.2.1 hc1027 dL_law_246 ?_
        refine lv_aload_n hx hb dL_law_247 rfl (lv_at hl 0 rfl) ?_
        refine lv_iload hx hb dL_law_248 (lv_at hl 4 rfl) ?_
        refine lv_iconst (v := 2) hx hb dL_law_250 (by decide) ?_
        refine lv_iadd hx hb dL_law_251 ?_
        obtain ⟨hc1028, hs⟩ := ww_chk hs
        refine va_sld hx hb hX hbl hbA hW.2.2.1 hc1028 dL_law_252 ?_
        refine lv_aload_n hx hb dL_law_253 rfl (lv_at hl 3 rfl) ?_
        obtain ⟨v1031, σ1032, hc1029, hs⟩ := ww_bn2 hs
        have hp1033 : pr σ 1 0 := (pr_st (hW.rd hgm) (Nat.le_of_ble_eq_true rfl))
        have hp1034 : pr σ 109 0 := (pr_st (hW.rd hgm) (Nat.le_of_ble_eq_true rfl))
        obtain ⟨hc1035, hs⟩ := ww_chk hs
        have hp1036 : pr σ 100 0 := (pr_dy hc1035 rfl rfl)
        obtain ⟨hc1037, hs⟩ := ww_chk hs
        obtain ⟨hs, hck⟩ := ww_ck2 hs
        have hrm1 := le2_ (hcs.roomC hc1037 hck) hRc
        refine wa_ci (vx_runSW (As := [.ref (L 1 0), .int (xs (x4 + (1 : Int32)).toNatClampNeg), .int (xs (x4 + (2 : Int32)).toNatClampNeg), .ref (L 100 0)]) (rest := []) ⟨hx, hb, hml, hown, hts⟩ (c_X0_land g hgm l L σ (xs (x4 + (1 : Int32)).toNatClampNeg) (xs (x4 + (2 : Int32)).toNatClampNeg) hst _ _ hc1029) (vx_cwSW 4 hts (lw_SW q734 q735 q110 q736) rfl rfl rfl hd_X0_land.2 ⟨(Nat.le_of_ble_eq_true rfl), (Nat.le_of_ble_eq_true rfl)⟩) (ww_preS hW) rfl rfl hl.1 rfl (lv_room (Nat.le_of_ble_eq_true rfl)) dL_law_254 hrm1) hW (fun H locs L hx1 hW => ?_)
        have hc1038 : 0 < gN_ σ1032 100 := Nat.lt_of_lt_of_le hc1035 (hx1.2.1 100)
        have hcs := hcs.call hc1037
        have hrm := hrm1
        have hl : lv_has ls 7 [(0, .ref b), (1, .ref (L 1 0)), (2, .ref (L 109 0)), (3, .ref (L 100 0)), (4, .int x4)] := by rw [hx1.at hp1033 (by decide), hx1.at hp1034 (by decide), hx1.at hp1036 (by decide)]; exact hl
        have hx0 := hx0.trans hx1
        refine lv_istore (lv' := [(5, .int v1031), (0, .ref b), (1, .ref (L 1 0)), (2, .ref (L 109 0)), (3, .ref (L 100 0)), (4, .int x4)]) hx hb dL_law_257 hl (by decide) rfl (fun ls hl => ?_)
        refine lv_aload_n hx hb dL_law_259 rfl (lv_at hl 3 rfl) ?_
        refine lv_aload_n hx hb dL_law_260 rfl (lv_at hl 1 rfl) ?_
        refine lv_iload hx hb dL_law_261 (lv_at hl 5 rfl) ?_
        refine lv_iconst (v := 1) hx hb dL_law_263 (by decide) ?_
        refine lv_iadd hx hb dL_law_264 ?_
        refine va_sld hx hb hX hbl hbA hW.2.2.1 hc1027 dL_law_265 ?_
        refine lv_aload_n hx hb dL_law_266 rfl (lv_at hl 1 rfl) ?_
        refine lv_iload hx hb dL_law_267 (lv_at hl 5 rfl) ?_
        refine lv_iconst (v := 2) hx hb dL_law_269 (by decide) ?_
        refine lv_iadd hx hb dL_law_270 ?_
        refine va_sld hx hb hX hbl hbA hW.2.2.1 hc1028 dL_law_271 ?_
        obtain ⟨v1041, σ1042, hc1039, hs⟩ := ww_bn2 hs
        obtain ⟨hkp, hs⟩ := ww_pif hs
        obtain ⟨hx0, hcs⟩ := lx_s hx0 hcs hkp
        refine ww_ci (va_runV (As := [.int (xs (x4 + (1 : Int32)).toNatClampNeg), .int (xs (x4 + (2 : Int32)).toNatClampNeg)]) (rest := []) ⟨hx, hb, hml, hown, hts⟩ (c_X10_land g hgm l L σ1032 (xs (x4 + (1 : Int32)).toNatClampNeg) (xs (x4 + (2 : Int32)).toNatClampNeg) _ _ hc1039) (cwV 2 hts (lw_V q2015 q2016 q2017 q123 q2018) rfl rfl rfl hd_X10_land ⟨(Nat.le_of_ble_eq_true rfl), (Nat.le_of_ble_eq_true rfl)⟩) (ww_preV hW (pr_st (hW.rd hgm) (Nat.le_of_ble_eq_true rfl)) (obv_0 rfl) rfl) rfl rfl hl.1 rfl (lv_room (Nat.le_of_ble_eq_true rfl)) dL_law_272 hrm) hW (fun H locs hW => ?_)
        have hc1043 : 0 < gN_ σ1042 100 := by rw [hkp.1]; exact hc1038
        refine lv_istore (lv' := [(6, .int v1041), (5, .int v1031), (0, .ref b), (1, .ref (L 1 0)), (2, .ref (L 109 0)), (3, .ref (L 100 0)), (4, .int x4)]) hx hb dL_law_275 hl (by decide) rfl (fun ls hl => ?_)
        refine lv_aload_n hx hb dL_law_277 rfl (lv_at hl 4 rfl) ?_
        obtain ⟨v1046, hc1044, hs⟩ := ww_bnd hs
        refine ww_ci (va_runV (As := []) (rest := []) ⟨hx, hb, hml, hown, hts⟩ (c_X10_thrown g hgm l L σ1042  _ hc1044) (cwV 0 hts (lw_V q1671 q1672 q1673 q123 q1674) rfl rfl rfl hd_X10_thrown ⟨(Nat.le_of_ble_eq_true rfl), (Nat.le_of_ble_eq_true rfl)⟩) (ww_preV hW (pr_st (hW.rd hgm) (Nat.le_of_ble_eq_true rfl)) (obv_0 rfl) rfl) rfl rfl hl.1 rfl (lv_room (Nat.le_of_ble_eq_true rfl)) dL_law_278 hrm) hW (fun H locs hW => ?_)
        refine lv_iload hx hb dL_law_281 (lv_at hl 1 rfl) ?_
        refine lv_icmp_eq (tgt := 288) hx hb dL_law_283 (by decide) (fun hc1047 => ?_) (fun hc1047 => ?_)
        · have hs := ww_T hs hc1047
          refine lv_iload hx hb dL_law_288 (lv_at hl 1 rfl) ?_
          refine lv_if_ne (tgt := 305) hx hb dL_law_290 (by decide) (fun hc1048 => ?_) (fun hc1048 => ?_)
          · have hs := ww_F hs hc1048
            exact hL305 L σ1042 x4 _ _ _ _ ls hx0 hcs hrm hW (lv_sub hl [2, 3, 4, 5, 6] rfl) hs
          · have hs := ww_T hs hc1048
            refine lv_aload_n hx hb dL_law_293 rfl (lv_at hl 5 rfl) ?_
            refine lv_iconst (v := 0) hx hb dL_law_294 (by decide) ?_
            refine ww_lald hx hb hW (pr_dy hc1043 rfl rfl) (j := (0 : Int32)) (vin_lit rfl) dL_law_295 ?_
            refine lv_iload hx hb dL_law_296 (lv_at hl 0 rfl) ?_
            refine lv_i2l hx hb dL_law_298 rfl ?_
            refine W.lcmp hx hb dL_law_299 ?_
            refine lv_if_eq (tgt := 305) hx hb dL_law_300 (by decide) (fun hc1049 => ?_) (fun hc1049 => ?_)
            · have hs := ww_T hs hc1049
              exact hL305 L σ1042 x4 _ _ _ _ ls hx0 hcs hrm hW (lv_sub hl [2, 3, 4, 5, 6] rfl) hs
            · have hs := ww_F hs hc1049
              refine lv_iconst (v := 0) hx hb dL_law_303 (by decide) ?_
              have hs := ww_S hs
              exact wl_ret hx hb hr hlocks hW hsz hrm (congrArg Prod.fst hs) hr1 dL_law_304
        · have hs := ww_F hs hc1047
          refine lv_iconst (v := 0) hx hb dL_law_286 (by decide) ?_
          have hs := ww_S hs
          exact wl_ret hx hb hr hlocks hW hsz hrm (congrArg Prod.fst hs) hr1 dL_law_287
      intro L σ x4 H locs cells slots ls hx0 hcs hrm hW hl hs
      rw [m_L_law_L23] at hs
      refine lv_iload hx hb dL_law_23 (lv_at hl 4 rfl) ?_
      refine lv_aload_n hx hb dL_law_25 rfl (lv_at hl 0 rfl) ?_
      refine va_slen hx hb hX hbl hbA hW.2.2.1 dL_law_26 ?_
      refine lv_bipush (v := 6) hx hb dL_law_27 (by decide) ?_
      refine lv_isub hx hb dL_law_29 ?_
      refine lv_icmp_gt (tgt := 3451) hx hb dL_law_30 (by decide) (fun hc1050 => ?_) (fun hc1050 => ?_)
      · have hs := ww_T hs hc1050
        refine lv_iconst (v := 1) hx hb dL_law_3451 (by decide) ?_
        have hs := ww_S hs
        exact wl_ret hx hb hr hlocks hW hsz hrm (congrArg Prod.fst hs) hr1 dL_law_3452
      · have hs := ww_F hs hc1050
        refine lv_aload_n hx hb dL_law_33 rfl (lv_at hl 0 rfl) ?_
        refine lv_iload hx hb dL_law_34 (lv_at hl 4 rfl) ?_
        obtain ⟨hc1051, hs⟩ := ww_chk hs
        refine va_sld hx hb hX hbl hbA hW.2.2.1 hc1051 dL_law_36 ?_
        refine lv_bipush (v := 63) hx hb dL_law_37 (by decide) ?_
        refine lv_iand hx hb dL_law_39 ?_
        by_cases hc1052 : ((xs x4.toNatClampNeg) &&& (63 : Int32)) = (0 : Int32)
        · have hs := ww_T hs hc1052
          refine lv_tableIn (off := 200) (tgt := 240) hx hb dL_law_40 (by rw [hc1052]; decide) (by rw [hc1052]; decide) (by rw [hc1052]; rfl) (by decide) ?_
          exact hL240 L σ x4 _ _ _ _ ls hx0 hcs hrm hW (lv_sub hl [0, 1, 2, 3, 4] rfl) hs
        · have hs := ww_F hs hc1052
          by_cases hc1053 : ((xs x4.toNatClampNeg) &&& (63 : Int32)) = (1 : Int32)
          · have hs := ww_T hs hc1053
            refine lv_tableIn (off := 268) (tgt := 308) hx hb dL_law_40 (by rw [hc1053]; decide) (by rw [hc1053]; decide) (by rw [hc1053]; rfl) (by decide) ?_
            exact hL308 L σ x4 _ _ _ _ ls hx0 hcs hrm hW (lv_sub hl [0, 1, 2, 3, 4] rfl) hs
          · have hs := ww_F hs hc1053
            by_cases hc1054 : ((xs x4.toNatClampNeg) &&& (63 : Int32)) = (2 : Int32)
            · have hs := ww_T hs hc1054
              refine lv_tableIn (off := 360) (tgt := 400) hx hb dL_law_40 (by rw [hc1054]; decide) (by rw [hc1054]; decide) (by rw [hc1054]; rfl) (by decide) ?_
              exact hL400 L σ x4 _ _ _ _ ls hx0 hcs hrm hW (lv_sub hl [0, 1, 2, 3, 4] rfl) hs
            · have hs := ww_F hs hc1054
              by_cases hc1055 : ((xs x4.toNatClampNeg) &&& (63 : Int32)) = (3 : Int32)
              · have hs := ww_T hs hc1055
                refine lv_tableIn (off := 416) (tgt := 456) hx hb dL_law_40 (by rw [hc1055]; decide) (by rw [hc1055]; decide) (by rw [hc1055]; rfl) (by decide) ?_
                exact hL456 L σ x4 _ _ _ _ ls hx0 hcs hrm hW (lv_sub hl [0, 1, 2, 3, 4] rfl) hs
              · have hs := ww_F hs hc1055
                by_cases hc1056 : ((xs x4.toNatClampNeg) &&& (63 : Int32)) = (4 : Int32)
                · have hs := ww_T hs hc1056
                  refine lv_tableIn (off := 484) (tgt := 524) hx hb dL_law_40 (by rw [hc1056]; decide) (by rw [hc1056]; decide) (by rw [hc1056]; rfl) (by decide) ?_
                  exact hL524 L σ x4 _ _ _ _ ls hx0 hcs hrm hW (lv_sub hl [0, 1, 2, 3, 4] rfl) hs
                · have hs := ww_F hs hc1056
                  by_cases hc1057 : ((xs x4.toNatClampNeg) &&& (63 : Int32)) = (5 : Int32)
                  · have hs := ww_T hs hc1057
                    refine lv_tableIn (off := 576) (tgt := 616) hx hb dL_law_40 (by rw [hc1057]; decide) (by rw [hc1057]; decide) (by rw [hc1057]; rfl) (by decide) ?_
                    exact hL616 L σ x4 _ _ _ _ ls hx0 hcs hrm hW (lv_sub hl [0, 1, 2, 3, 4] rfl) hs
                  · have hs := ww_F hs hc1057
                    by_cases hc1058 : ((xs x4.toNatClampNeg) &&& (63 : Int32)) = (6 : Int32)
                    · have hs := ww_T hs hc1058
                      refine lv_tableIn (off := 644) (tgt := 684) hx hb dL_law_40 (by rw [hc1058]; decide) (by rw [hc1058]; decide) (by rw [hc1058]; rfl) (by decide) ?_
                      exact hL684 L σ x4 _ _ _ _ ls hx0 hcs hrm hW (lv_sub hl [0, 1, 2, 3, 4] rfl) hs
                    · have hs := ww_F hs hc1058
                      by_cases hc1059 : ((xs x4.toNatClampNeg) &&& (63 : Int32)) = (7 : Int32)
                      · have hs := ww_T hs hc1059
                        refine lv_tableIn (off := 700) (tgt := 740) hx hb dL_law_40 (by rw [hc1059]; decide) (by rw [hc1059]; decide) (by rw [hc1059]; rfl) (by decide) ?_
                        exact hL740 L σ x4 _ _ _ _ ls hx0 hcs hrm hW (lv_sub hl [0, 1, 2, 3, 4] rfl) hs
                      · have hs := ww_F hs hc1059
                        by_cases hc1060 : ((xs x4.toNatClampNeg) &&& (63 : Int32)) = (8 : Int32)
                        · have hs := ww_T hs hc1060
                          refine lv_tableIn (off := 773) (tgt := 813) hx hb dL_law_40 (by rw [hc1060]; decide) (by rw [hc1060]; decide) (by rw [hc1060]; rfl) (by decide) ?_
                          exact hL813 L σ x4 _ _ _ _ ls hx0 hcs hrm hW (lv_sub hl [0, 1, 2, 3, 4] rfl) hs
                        · have hs := ww_F hs hc1060
                          by_cases hc1061 : ((xs x4.toNatClampNeg) &&& (63 : Int32)) = (9 : Int32)
                          · have hs := ww_T hs hc1061
                            refine lv_tableIn (off := 829) (tgt := 869) hx hb dL_law_40 (by rw [hc1061]; decide) (by rw [hc1061]; decide) (by rw [hc1061]; rfl) (by decide) ?_
                            exact hL869 L σ x4 _ _ _ _ ls hx0 hcs hrm hW (lv_sub hl [0, 1, 2, 3, 4] rfl) hs
                          · have hs := ww_F hs hc1061
                            by_cases hc1062 : ((xs x4.toNatClampNeg) &&& (63 : Int32)) = (10 : Int32)
                            · have hs := ww_T hs hc1062
                              refine lv_tableIn (off := 897) (tgt := 937) hx hb dL_law_40 (by rw [hc1062]; decide) (by rw [hc1062]; decide) (by rw [hc1062]; rfl) (by decide) ?_
                              exact hL937 L σ x4 _ _ _ _ ls hx0 hcs hrm hW (lv_sub hl [0, 1, 2, 3, 4] rfl) hs
                            · have hs := ww_F hs hc1062
                              by_cases hc1063 : ((xs x4.toNatClampNeg) &&& (63 : Int32)) = (11 : Int32)
                              · have hs := ww_T hs hc1063
                                refine lv_tableIn (off := 977) (tgt := 1017) hx hb dL_law_40 (by rw [hc1063]; decide) (by rw [hc1063]; decide) (by rw [hc1063]; rfl) (by decide) ?_
                                exact hL1017 L σ x4 _ _ _ _ ls hx0 hcs hrm hW (lv_sub hl [0, 1, 2, 3, 4] rfl) hs
                              · have hs := ww_F hs hc1063
                                by_cases hc1064 : ((xs x4.toNatClampNeg) &&& (63 : Int32)) = (12 : Int32)
                                · have hs := ww_T hs hc1064
                                  refine lv_tableIn (off := 1045) (tgt := 1085) hx hb dL_law_40 (by rw [hc1064]; decide) (by rw [hc1064]; decide) (by rw [hc1064]; rfl) (by decide) ?_
                                  exact hL1085 L σ x4 _ _ _ _ ls hx0 hcs hrm hW (lv_sub hl [0, 1, 2, 3, 4] rfl) hs
                                · have hs := ww_F hs hc1064
                                  by_cases hc1065 : ((xs x4.toNatClampNeg) &&& (63 : Int32)) = (13 : Int32)
                                  · have hs := ww_T hs hc1065
                                    refine lv_tableIn (off := 1125) (tgt := 1165) hx hb dL_law_40 (by rw [hc1065]; decide) (by rw [hc1065]; decide) (by rw [hc1065]; rfl) (by decide) ?_
                                    exact hL1165 L σ x4 _ _ _ _ ls hx0 hcs hrm hW (lv_sub hl [0, 1, 2, 3, 4] rfl) hs
                                  · have hs := ww_F hs hc1065
                                    by_cases hc1066 : ((xs x4.toNatClampNeg) &&& (63 : Int32)) = (14 : Int32)
                                    · have hs := ww_T hs hc1066
                                      refine lv_tableIn (off := 1193) (tgt := 1233) hx hb dL_law_40 (by rw [hc1066]; decide) (by rw [hc1066]; decide) (by rw [hc1066]; rfl) (by decide) ?_
                                      exact hL1233 L σ x4 _ _ _ _ ls hx0 hcs hrm hW (lv_sub hl [0, 1, 2, 3, 4] rfl) hs
                                    · have hs := ww_F hs hc1066
                                      by_cases hc1067 : ((xs x4.toNatClampNeg) &&& (63 : Int32)) = (15 : Int32)
                                      · have hs := ww_T hs hc1067
                                        refine lv_tableIn (off := 1273) (tgt := 1313) hx hb dL_law_40 (by rw [hc1067]; decide) (by rw [hc1067]; decide) (by rw [hc1067]; rfl) (by decide) ?_
                                        exact hL1313 L σ x4 _ _ _ _ ls hx0 hcs hrm hW (lv_sub hl [0, 1, 2, 3, 4] rfl) hs
                                      · have hs := ww_F hs hc1067
                                        by_cases hc1068 : ((xs x4.toNatClampNeg) &&& (63 : Int32)) = (16 : Int32)
                                        · have hs := ww_T hs hc1068
                                          refine lv_tableIn (off := 1341) (tgt := 1381) hx hb dL_law_40 (by rw [hc1068]; decide) (by rw [hc1068]; decide) (by rw [hc1068]; rfl) (by decide) ?_
                                          exact hL1381 L σ x4 _ _ _ _ ls hx0 hcs hrm hW (lv_sub hl [0, 1, 2, 3, 4] rfl) hs
                                        · have hs := ww_F hs hc1068
                                          by_cases hc1069 : ((xs x4.toNatClampNeg) &&& (63 : Int32)) = (17 : Int32)
                                          · have hs := ww_T hs hc1069
                                            refine lv_tableIn (off := 1354) (tgt := 1394) hx hb dL_law_40 (by rw [hc1069]; decide) (by rw [hc1069]; decide) (by rw [hc1069]; rfl) (by decide) ?_
                                            exact hL1394 L σ x4 _ _ _ _ ls hx0 hcs hrm hW (lv_sub hl [0, 1, 2, 3, 4] rfl) hs
                                          · have hs := ww_F hs hc1069
                                            by_cases hc1070 : ((xs x4.toNatClampNeg) &&& (63 : Int32)) = (18 : Int32)
                                            · have hs := ww_T hs hc1070
                                              refine lv_tableIn (off := 1410) (tgt := 1450) hx hb dL_law_40 (by rw [hc1070]; decide) (by rw [hc1070]; decide) (by rw [hc1070]; rfl) (by decide) ?_
                                              exact hL1450 L σ x4 _ _ _ _ ls hx0 hcs hrm hW (lv_sub hl [0, 1, 2, 3, 4] rfl) hs
                                            · have hs := ww_F hs hc1070
                                              by_cases hc1071 : ((xs x4.toNatClampNeg) &&& (63 : Int32)) = (19 : Int32)
                                              · have hs := ww_T hs hc1071
                                                refine lv_tableIn (off := 1478) (tgt := 1518) hx hb dL_law_40 (by rw [hc1071]; decide) (by rw [hc1071]; decide) (by rw [hc1071]; rfl) (by decide) ?_
                                                exact hL1518 L σ x4 _ _ _ _ ls hx0 hcs hrm hW (lv_sub hl [0, 1, 2, 3, 4] rfl) hs
                                              · have hs := ww_F hs hc1071
                                                by_cases hc1072 : ((xs x4.toNatClampNeg) &&& (63 : Int32)) = (20 : Int32)
                                                · have hs := ww_T hs hc1072
                                                  refine lv_tableIn (off := 1503) (tgt := 1543) hx hb dL_law_40 (by rw [hc1072]; decide) (by rw [hc1072]; decide) (by rw [hc1072]; rfl) (by decide) ?_
                                                  exact hL1543 L σ x4 _ _ _ _ ls hx0 hcs hrm hW (lv_sub hl [0, 1, 2, 3, 4] rfl) hs
                                                · have hs := ww_F hs hc1072
                                                  by_cases hc1073 : ((xs x4.toNatClampNeg) &&& (63 : Int32)) = (21 : Int32)
                                                  · have hs := ww_T hs hc1073
                                                    refine lv_tableIn (off := 1559) (tgt := 1599) hx hb dL_law_40 (by rw [hc1073]; decide) (by rw [hc1073]; decide) (by rw [hc1073]; rfl) (by decide) ?_
                                                    exact hL1599 L σ x4 _ _ _ _ ls hx0 hcs hrm hW (lv_sub hl [0, 1, 2, 3, 4] rfl) hs
                                                  · have hs := ww_F hs hc1073
                                                    by_cases hc1074 : ((xs x4.toNatClampNeg) &&& (63 : Int32)) = (22 : Int32)
                                                    · have hs := ww_T hs hc1074
                                                      refine lv_tableIn (off := 1627) (tgt := 1667) hx hb dL_law_40 (by rw [hc1074]; decide) (by rw [hc1074]; decide) (by rw [hc1074]; rfl) (by decide) ?_
                                                      exact hL1667 L σ x4 _ _ _ _ ls hx0 hcs hrm hW (lv_sub hl [0, 1, 2, 3, 4] rfl) hs
                                                    · have hs := ww_F hs hc1074
                                                      by_cases hc1075 : ((xs x4.toNatClampNeg) &&& (63 : Int32)) = (23 : Int32)
                                                      · have hs := ww_T hs hc1075
                                                        refine lv_tableIn (off := 1711) (tgt := 1751) hx hb dL_law_40 (by rw [hc1075]; decide) (by rw [hc1075]; decide) (by rw [hc1075]; rfl) (by decide) ?_
                                                        exact hL1751 L σ x4 _ _ _ _ ls hx0 hcs hrm hW (lv_sub hl [0, 1, 2, 3, 4] rfl) hs
                                                      · have hs := ww_F hs hc1075
                                                        by_cases hc1076 : ((xs x4.toNatClampNeg) &&& (63 : Int32)) = (24 : Int32)
                                                        · have hs := ww_T hs hc1076
                                                          refine lv_tableIn (off := 1814) (tgt := 1854) hx hb dL_law_40 (by rw [hc1076]; decide) (by rw [hc1076]; decide) (by rw [hc1076]; rfl) (by decide) ?_
                                                          exact hL1854 L σ x4 _ _ _ _ ls hx0 hcs hrm hW (lv_sub hl [0, 1, 2, 3, 4] rfl) hs
                                                        · have hs := ww_F hs hc1076
                                                          by_cases hc1077 : ((xs x4.toNatClampNeg) &&& (63 : Int32)) = (25 : Int32)
                                                          · have hs := ww_T hs hc1077
                                                            refine lv_tableIn (off := 1906) (tgt := 1946) hx hb dL_law_40 (by rw [hc1077]; decide) (by rw [hc1077]; decide) (by rw [hc1077]; rfl) (by decide) ?_
                                                            exact hL1946 L σ x4 _ _ _ _ ls hx0 hcs hrm hW (lv_sub hl [0, 1, 2, 3, 4] rfl) hs
                                                          · have hs := ww_F hs hc1077
                                                            by_cases hc1078 : ((xs x4.toNatClampNeg) &&& (63 : Int32)) = (26 : Int32)
                                                            · have hs := ww_T hs hc1078
                                                              refine lv_tableIn (off := 1974) (tgt := 2014) hx hb dL_law_40 (by rw [hc1078]; decide) (by rw [hc1078]; decide) (by rw [hc1078]; rfl) (by decide) ?_
                                                              exact hL2014 L σ x4 _ _ _ _ ls hx0 hcs hrm hW (lv_sub hl [0, 1, 2, 3, 4] rfl) hs
                                                            · have hs := ww_F hs hc1078
                                                              by_cases hc1079 : ((xs x4.toNatClampNeg) &&& (63 : Int32)) = (27 : Int32)
                                                              · have hs := ww_T hs hc1079
                                                                refine lv_tableIn (off := 2042) (tgt := 2082) hx hb dL_law_40 (by rw [hc1079]; decide) (by rw [hc1079]; decide) (by rw [hc1079]; rfl) (by decide) ?_
                                                                exact hL2082 L σ x4 _ _ _ _ ls hx0 hcs hrm hW (lv_sub hl [0, 1, 2, 3, 4] rfl) hs
                                                              · have hs := ww_F hs hc1079
                                                                by_cases hc1080 : ((xs x4.toNatClampNeg) &&& (63 : Int32)) = (28 : Int32)
                                                                · have hs := ww_T hs hc1080
                                                                  refine lv_tableIn (off := 2134) (tgt := 2174) hx hb dL_law_40 (by rw [hc1080]; decide) (by rw [hc1080]; decide) (by rw [hc1080]; rfl) (by decide) ?_
                                                                  exact hL2174 L σ x4 _ _ _ _ ls hx0 hcs hrm hW (lv_sub hl [0, 1, 2, 3, 4] rfl) hs
                                                                · have hs := ww_F hs hc1080
                                                                  by_cases hc1081 : ((xs x4.toNatClampNeg) &&& (63 : Int32)) = (29 : Int32)
                                                                  · have hs := ww_T hs hc1081
                                                                    refine lv_tableIn (off := 2190) (tgt := 2230) hx hb dL_law_40 (by rw [hc1081]; decide) (by rw [hc1081]; decide) (by rw [hc1081]; rfl) (by decide) ?_
                                                                    exact hL2230 L σ x4 _ _ _ _ ls hx0 hcs hrm hW (lv_sub hl [0, 1, 2, 3, 4] rfl) hs
                                                                  · have hs := ww_F hs hc1081
                                                                    by_cases hc1082 : ((xs x4.toNatClampNeg) &&& (63 : Int32)) = (30 : Int32)
                                                                    · have hs := ww_T hs hc1082
                                                                      refine lv_tableIn (off := 2282) (tgt := 2322) hx hb dL_law_40 (by rw [hc1082]; decide) (by rw [hc1082]; decide) (by rw [hc1082]; rfl) (by decide) ?_
                                                                      exact hL2322 L σ x4 _ _ _ _ ls hx0 hcs hrm hW (lv_sub hl [0, 1, 2, 3, 4] rfl) hs
                                                                    · have hs := ww_F hs hc1082
                                                                      by_cases hc1083 : ((xs x4.toNatClampNeg) &&& (63 : Int32)) = (31 : Int32)
                                                                      · have hs := ww_T hs hc1083
                                                                        refine lv_tableIn (off := 2350) (tgt := 2390) hx hb dL_law_40 (by rw [hc1083]; decide) (by rw [hc1083]; decide) (by rw [hc1083]; rfl) (by decide) ?_
                                                                        exact hL2390 L σ x4 _ _ _ _ ls hx0 hcs hrm hW (lv_sub hl [0, 1, 2, 3, 4] rfl) hs
                                                                      · have hs := ww_F hs hc1083
                                                                        by_cases hc1084 : ((xs x4.toNatClampNeg) &&& (63 : Int32)) = (32 : Int32)
                                                                        · have hs := ww_T hs hc1084
                                                                          refine lv_tableIn (off := 2430) (tgt := 2470) hx hb dL_law_40 (by rw [hc1084]; decide) (by rw [hc1084]; decide) (by rw [hc1084]; rfl) (by decide) ?_
                                                                          exact hL2470 L σ x4 _ _ _ _ ls hx0 hcs hrm hW (lv_sub hl [0, 1, 2, 3, 4] rfl) hs
                                                                        · have hs := ww_F hs hc1084
                                                                          by_cases hc1085 : ((xs x4.toNatClampNeg) &&& (63 : Int32)) = (33 : Int32)
                                                                          · have hs := ww_T hs hc1085
                                                                            refine lv_tableIn (off := 2517) (tgt := 2557) hx hb dL_law_40 (by rw [hc1085]; decide) (by rw [hc1085]; decide) (by rw [hc1085]; rfl) (by decide) ?_
                                                                            exact hL2557 L σ x4 _ _ _ _ ls hx0 hcs hrm hW (lv_sub hl [0, 1, 2, 3, 4] rfl) hs
                                                                          · have hs := ww_F hs hc1085
                                                                            by_cases hc1086 : ((xs x4.toNatClampNeg) &&& (63 : Int32)) = (34 : Int32)
                                                                            · have hs := ww_T hs hc1086
                                                                              refine lv_tableIn (off := 2585) (tgt := 2625) hx hb dL_law_40 (by rw [hc1086]; decide) (by rw [hc1086]; decide) (by rw [hc1086]; rfl) (by decide) ?_
                                                                              exact hL2625 L σ x4 _ _ _ _ ls hx0 hcs hrm hW (lv_sub hl [0, 1, 2, 3, 4] rfl) hs
                                                                            · have hs := ww_F hs hc1086
                                                                              by_cases hc1087 : ((xs x4.toNatClampNeg) &&& (63 : Int32)) = (35 : Int32)
                                                                              · have hs := ww_T hs hc1087
                                                                                refine lv_tableIn (off := 2665) (tgt := 2705) hx hb dL_law_40 (by rw [hc1087]; decide) (by rw [hc1087]; decide) (by rw [hc1087]; rfl) (by decide) ?_
                                                                                exact hL2705 L σ x4 _ _ _ _ ls hx0 hcs hrm hW (lv_sub hl [0, 1, 2, 3, 4] rfl) hs
                                                                              · have hs := ww_F hs hc1087
                                                                                by_cases hc1088 : ((xs x4.toNatClampNeg) &&& (63 : Int32)) = (36 : Int32)
                                                                                · have hs := ww_T hs hc1088
                                                                                  refine lv_tableIn (off := 2733) (tgt := 2773) hx hb dL_law_40 (by rw [hc1088]; decide) (by rw [hc1088]; decide) (by rw [hc1088]; rfl) (by decide) ?_
                                                                                  exact hL2773 L σ x4 _ _ _ _ ls hx0 hcs hrm hW (lv_sub hl [0, 1, 2, 3, 4] rfl) hs
                                                                                · have hs := ww_F hs hc1088
                                                                                  by_cases hc1089 : ((xs x4.toNatClampNeg) &&& (63 : Int32)) = (37 : Int32)
                                                                                  · have hs := ww_T hs hc1089
                                                                                    refine lv_tableIn (off := 2801) (tgt := 2841) hx hb dL_law_40 (by rw [hc1089]; decide) (by rw [hc1089]; decide) (by rw [hc1089]; rfl) (by decide) ?_
                                                                                    exact hL2841 L σ x4 _ _ _ _ ls hx0 hcs hrm hW (lv_sub hl [0, 1, 2, 3, 4] rfl) hs
                                                                                  · have hs := ww_F hs hc1089
                                                                                    by_cases hc1090 : ((xs x4.toNatClampNeg) &&& (63 : Int32)) = (38 : Int32)
                                                                                    · have hs := ww_T hs hc1090
                                                                                      refine lv_tableIn (off := 2857) (tgt := 2897) hx hb dL_law_40 (by rw [hc1090]; decide) (by rw [hc1090]; decide) (by rw [hc1090]; rfl) (by decide) ?_
                                                                                      exact hL2897 L σ x4 _ _ _ _ ls hx0 hcs hrm hW (lv_sub hl [0, 1, 2, 3, 4] rfl) hs
                                                                                    · have hs := ww_F hs hc1090
                                                                                      by_cases hc1091 : ((xs x4.toNatClampNeg) &&& (63 : Int32)) = (39 : Int32)
                                                                                      · have hs := ww_T hs hc1091
                                                                                        refine lv_tableIn (off := 2925) (tgt := 2965) hx hb dL_law_40 (by rw [hc1091]; decide) (by rw [hc1091]; decide) (by rw [hc1091]; rfl) (by decide) ?_
                                                                                        exact hL2965 L σ x4 _ _ _ _ ls hx0 hcs hrm hW (lv_sub hl [0, 1, 2, 3, 4] rfl) hs
                                                                                      · have hs := ww_F hs hc1091
                                                                                        by_cases hc1092 : ((xs x4.toNatClampNeg) &&& (63 : Int32)) = (40 : Int32)
                                                                                        · have hs := ww_T hs hc1092
                                                                                          refine lv_tableIn (off := 2993) (tgt := 3033) hx hb dL_law_40 (by rw [hc1092]; decide) (by rw [hc1092]; decide) (by rw [hc1092]; rfl) (by decide) ?_
                                                                                          exact hL3033 L σ x4 _ _ _ _ ls hx0 hcs hrm hW (lv_sub hl [0, 1, 2, 3, 4] rfl) hs
                                                                                        · have hs := ww_F hs hc1092
                                                                                          by_cases hc1093 : ((xs x4.toNatClampNeg) &&& (63 : Int32)) = (41 : Int32)
                                                                                          · have hs := ww_T hs hc1093
                                                                                            refine lv_tableIn (off := 3073) (tgt := 3113) hx hb dL_law_40 (by rw [hc1093]; decide) (by rw [hc1093]; decide) (by rw [hc1093]; rfl) (by decide) ?_
                                                                                            exact hL3113 L σ x4 _ _ _ _ ls hx0 hcs hrm hW (lv_sub hl [0, 1, 2, 3, 4] rfl) hs
                                                                                          · have hs := ww_F hs hc1093
                                                                                            by_cases hc1094 : ((xs x4.toNatClampNeg) &&& (63 : Int32)) = (42 : Int32)
                                                                                            · have hs := ww_T hs hc1094
                                                                                              refine lv_tableIn (off := 3164) (tgt := 3204) hx hb dL_law_40 (by rw [hc1094]; decide) (by rw [hc1094]; decide) (by rw [hc1094]; rfl) (by decide) ?_
                                                                                              exact hL3204 L σ x4 _ _ _ _ ls hx0 hcs hrm hW (lv_sub hl [0, 1, 2, 3, 4] rfl) hs
                                                                                            · have hs := ww_F hs hc1094
                                                                                              by_cases hc1095 : ((xs x4.toNatClampNeg) &&& (63 : Int32)) = (43 : Int32)
                                                                                              · have hs := ww_T hs hc1095
                                                                                                refine lv_tableIn (off := 3232) (tgt := 3272) hx hb dL_law_40 (by rw [hc1095]; decide) (by rw [hc1095]; decide) (by rw [hc1095]; rfl) (by decide) ?_
                                                                                                exact hL3272 L σ x4 _ _ _ _ ls hx0 hcs hrm hW (lv_sub hl [0, 1, 2, 3, 4] rfl) hs
                                                                                              · have hs := ww_F hs hc1095
                                                                                                by_cases hc1096 : ((xs x4.toNatClampNeg) &&& (63 : Int32)) = (44 : Int32)
                                                                                                · have hs := ww_T hs hc1096
                                                                                                  refine lv_tableIn (off := 3300) (tgt := 3340) hx hb dL_law_40 (by rw [hc1096]; decide) (by rw [hc1096]; decide) (by rw [hc1096]; rfl) (by decide) ?_
                                                                                                  exact hL3340 L σ x4 _ _ _ _ ls hx0 hcs hrm hW (lv_sub hl [0, 1, 2, 3, 4] rfl) hs
                                                                                                · have hs := ww_F hs hc1096
                                                                                                  by_cases hc1097 : ((xs x4.toNatClampNeg) &&& (63 : Int32)) = (45 : Int32)
                                                                                                  · have hs := ww_T hs hc1097
                                                                                                    refine lv_tableIn (off := 3380) (tgt := 3420) hx hb dL_law_40 (by rw [hc1097]; decide) (by rw [hc1097]; decide) (by rw [hc1097]; rfl) (by decide) ?_
                                                                                                    exact hL3420 L σ x4 _ _ _ _ ls hx0 hcs hrm hW (lv_sub hl [0, 1, 2, 3, 4] rfl) hs
                                                                                                  · have hs := ww_F hs hc1097
                                                                                                    refine lv_tableOut (tgt := 3445) hx hb dL_law_40 (by have z0 := lv_neT (k := (0 : Int32)) (a := 0) hc1052 rfl; have z1 := lv_neT (k := (1 : Int32)) (a := 1) hc1053 rfl; have z2 := lv_neT (k := (2 : Int32)) (a := 2) hc1054 rfl; have z3 := lv_neT (k := (3 : Int32)) (a := 3) hc1055 rfl; have z4 := lv_neT (k := (4 : Int32)) (a := 4) hc1056 rfl; have z5 := lv_neT (k := (5 : Int32)) (a := 5) hc1057 rfl; have z6 := lv_neT (k := (6 : Int32)) (a := 6) hc1058 rfl; have z7 := lv_neT (k := (7 : Int32)) (a := 7) hc1059 rfl; have z8 := lv_neT (k := (8 : Int32)) (a := 8) hc1060 rfl; have z9 := lv_neT (k := (9 : Int32)) (a := 9) hc1061 rfl; have z10 := lv_neT (k := (10 : Int32)) (a := 10) hc1062 rfl; have z11 := lv_neT (k := (11 : Int32)) (a := 11) hc1063 rfl; have z12 := lv_neT (k := (12 : Int32)) (a := 12) hc1064 rfl; have z13 := lv_neT (k := (13 : Int32)) (a := 13) hc1065 rfl; have z14 := lv_neT (k := (14 : Int32)) (a := 14) hc1066 rfl; have z15 := lv_neT (k := (15 : Int32)) (a := 15) hc1067 rfl; have z16 := lv_neT (k := (16 : Int32)) (a := 16) hc1068 rfl; have z17 := lv_neT (k := (17 : Int32)) (a := 17) hc1069 rfl; have z18 := lv_neT (k := (18 : Int32)) (a := 18) hc1070 rfl; have z19 := lv_neT (k := (19 : Int32)) (a := 19) hc1071 rfl; have z20 := lv_neT (k := (20 : Int32)) (a := 20) hc1072 rfl; have z21 := lv_neT (k := (21 : Int32)) (a := 21) hc1073 rfl; have z22 := lv_neT (k := (22 : Int32)) (a := 22) hc1074 rfl; have z23 := lv_neT (k := (23 : Int32)) (a := 23) hc1075 rfl; have z24 := lv_neT (k := (24 : Int32)) (a := 24) hc1076 rfl; have z25 := lv_neT (k := (25 : Int32)) (a := 25) hc1077 rfl; have z26 := lv_neT (k := (26 : Int32)) (a := 26) hc1078 rfl; have z27 := lv_neT (k := (27 : Int32)) (a := 27) hc1079 rfl; have z28 := lv_neT (k := (28 : Int32)) (a := 28) hc1080 rfl; have z29 := lv_neT (k := (29 : Int32)) (a := 29) hc1081 rfl; have z30 := lv_neT (k := (30 : Int32)) (a := 30) hc1082 rfl; have z31 := lv_neT (k := (31 : Int32)) (a := 31) hc1083 rfl; have z32 := lv_neT (k := (32 : Int32)) (a := 32) hc1084 rfl; have z33 := lv_neT (k := (33 : Int32)) (a := 33) hc1085 rfl; have z34 := lv_neT (k := (34 : Int32)) (a := 34) hc1086 rfl; have z35 := lv_neT (k := (35 : Int32)) (a := 35) hc1087 rfl; have z36 := lv_neT (k := (36 : Int32)) (a := 36) hc1088 rfl; have z37 := lv_neT (k := (37 : Int32)) (a := 37) hc1089 rfl; have z38 := lv_neT (k := (38 : Int32)) (a := 38) hc1090 rfl; have z39 := lv_neT (k := (39 : Int32)) (a := 39) hc1091 rfl; have z40 := lv_neT (k := (40 : Int32)) (a := 40) hc1092 rfl; have z41 := lv_neT (k := (41 : Int32)) (a := 41) hc1093 rfl; have z42 := lv_neT (k := (42 : Int32)) (a := 42) hc1094 rfl; have z43 := lv_neT (k := (43 : Int32)) (a := 43) hc1095 rfl; have z44 := lv_neT (k := (44 : Int32)) (a := 44) hc1096 rfl; have z45 := lv_neT (k := (45 : Int32)) (a := 45) hc1097 rfl; omega) (by decide) ?_
                                                                                                    exact hL3445 L σ x4 _ _ _ _ ls hx0 hcs hrm hW (lv_sub hl [0, 1, 2, 3, 4] rfl) hs
  exact hL23
