/-! ===== the model's costs ===== -/
set_option maxRecDepth 100000
def eix (a b : Nat) : Nat := 2 * min a b + (if a + 8 = b ∨ b + 8 = a then 1 else 0)
theorem adj_nb {c w : Nat} (hw : w < 4) (h : nb c w < 64) : adj c (nb c w) := ⟨h, w, hw, rfl⟩
theorem eix_lt {c n : Nat} (hc : c < 64) (h : adj c n) : eix c n < 128 := by
  obtain ⟨hn, w, hw, e⟩ := h
  subst e
  have key : ∀ c : Fin 64, ∀ w : Fin 4, nb c.val w.val < 64 → eix c.val (nb c.val w.val) < 128 := by decide +kernel
  exact key ⟨c, hc⟩ ⟨w, hw⟩ hn
theorem eix_symm (a b : Nat) : eix a b = eix b a := by
  unfold eix
  rw [Nat.min_comm]
  congr 1
  by_cases h : a + 8 = b ∨ b + 8 = a
  · rw [if_pos h, if_pos h.symm]
  · rw [if_neg h, if_neg (fun q => h q.symm)]
theorem X10_edge {c n : Nat} (hc : c < 64) (h : adj c n) : m_X10_edge (I_ c) (I_ n) = some (I_ (eix c n)) := by
  obtain ⟨hn, w, hw, e⟩ := h
  subst e
  have key : ∀ c : Fin 64, ∀ w : Fin 4, nb c.val w.val < 64 → m_X10_edge (I_ c.val) (I_ (nb c.val w.val)) = some (I_ (eix c.val (nb c.val w.val))) := by decide +kernel
  exact key ⟨c, hc⟩ ⟨w, hw⟩ hn
theorem X10_nb {c w : Nat} (hc : c < 64) (hw : w < 4) : m_X10_neighbour (I_ c) (I_ w) = some (if nb c w = 64 then (-1 : Int32) else I_ (nb c w)) := by
  have key : ∀ c : Fin 64, ∀ w : Fin 4, m_X10_neighbour (I_ c.val) (I_ w.val) = some (if nb c.val w.val = 64 then (-1 : Int32) else I_ (nb c.val w.val)) := by decide +kernel
  exact key ⟨c, hc⟩ ⟨w, hw⟩
/-- what a step costs -/
def wK (st : Int32) (fn fe : ar_T) (c n : Nat) : Int := st.toInt + (fn (eix c n)).toInt + (fe n).toInt
/-- fences and fear as they may be -/
def scK (st : Int32) (fn fe : ar_T) : Prop := (1 ≤ st.toInt ∧ st.toInt ≤ 50) ∧ (∀ e, e < 128 → 0 ≤ (fn e).toInt ∧ (fn e).toInt ≤ 100) ∧ (∀ c, c < 64 → 0 ≤ (fe c).toInt ∧ (fe c).toInt ≤ 1000)
/-- the same with positive weights everywhere -/
noncomputable def wP (st : Int32) (fn fe : ar_T) (c n : Nat) : Int := if 0 < wK st fn fe c n then wK st fn fe c n else 1
theorem wP_adj {st : Int32} {fn fe : ar_T} (h : scK st fn fe) {c n : Nat} (hc : c < 64) (ha : adj c n) : wP st fn fe c n = wK st fn fe c n ∧ 1 ≤ wK st fn fe c n ∧ wK st fn fe c n ≤ 1150 := by
  have h1 := h.2.1 _ (eix_lt hc ha)
  have h2 := h.2.2 n ha.1
  have h0 := h.1
  have hk : wK st fn fe c n = st.toInt + (fn (eix c n)).toInt + (fe n).toInt := rfl
  refine ⟨if_pos (by omega), by omega, by omega⟩
theorem wP_pos {st : Int32} {fn fe : ar_T} {c n : Nat} : 0 < wP st fn fe c n := by
  unfold wP
  by_cases h : 0 < wK st fn fe c n
  · rw [if_pos h]; exact h
  · rw [if_neg h]; omega
theorem X10_step {σ : st_T} {c n : Nat} (hc : c < 64) (ha : adj c n) : m_X10_stepCost σ (I_ c) (I_ n) = some ((gF_ σ 109 23 0 + gA_ σ 154 0 (eix c n)) + gA_ σ 155 0 n) := by
  have h1 := eix_lt hc ha
  have h2 := ha.1
  unfold m_X10_stepCost
  rw [X10_edge hc ha, Option.bind_some, if_pos ((I_inb (by omega)).mpr h1), if_pos ((I_inb (by omega)).mpr h2), I_nat (by omega), I_nat (by omega)]
theorem step_int {st : Int32} {fn fe : ar_T} (h : scK st fn fe) {c n : Nat} (hc : c < 64) (ha : adj c n) : ((st + fn (eix c n)) + fe n).toInt = wP st fn fe c n := by
  have h1 := h.2.1 _ (eix_lt hc ha)
  have h2 := h.2.2 n ha.1
  have h0 := h.1
  rw [(wP_adj h hc ha).1]
  have e1 : (st + fn (eix c n)).toInt = st.toInt + (fn (eix c n)).toInt := i_add (by omega) (by omega)
  rw [i_add (by rw [e1]; omega) (by rw [e1]; omega), e1]
  rfl
abbrev toI (f : ar_T) : Nat → Int := fun c => (f c).toInt
def muK (f : ar_T) : Nat := (sumN 64 (toI f)).toNat
theorem muK_upd {f : ar_T} {n : Nat} {v : Int32} (hn : n < 64) (h0 : ∀ c, c < 64 → 0 ≤ (f c).toInt) (hv : 0 ≤ v.toInt) (hlt : v.toInt < (f n).toInt) : muK (upd f n v) < muK f := by
  have e := sumN_upd (n := 64) (k := n) (f := toI f) (g := toI (upd f n v)) hn (fun j _ hj => by show (upd f n v j).toInt = _; rw [upd_n hj])
  have e2 : toI (upd f n v) n = v.toInt := by show (upd f n v n).toInt = _; rw [upd_s]
  have e3 : toI f n = (f n).toInt := rfl
  have h1 := sumN_lo (n := 64) (f := toI (upd f n v)) (b := 0) (fun j hj => by
    show 0 ≤ (upd f n v j).toInt
    by_cases q : j = n
    · rw [q, upd_s]; exact hv
    · rw [upd_n q]; exact h0 j hj)
  unfold muK
  omega
theorem muK_hi {f : ar_T} (h : ∀ c, c < 64 → (f c).toInt ≤ FAR_) : muK f + 1 < 999999999999 := by
  have := sumN_hi (n := 64) (f := toI f) (b := FAR_) h
  have hF : FAR_ = 1000000000 := rfl
  unfold muK
  omega
/-- an edge is relaxed (from a cell by a way) -/
def RK (op : Nat → Prop) (w : Nat → Nat → Int) (s : Nat) (c q : Nat) (f : ar_T) : Prop := (f c).toInt < FAR_ → nb c q < 64 → op (nb c q) → nb c q ≠ s → (f (nb c q)).toInt ≤ (f c).toInt + w c (nb c q)
def JK (op : Nat → Prop) (w : Nat → Nat → Int) (s : Nat) (b : Int) (g : ar_T) (f : ar_T) : Prop := LJ op w s b (toI f) ∧ ∀ j, 64 ≤ j → f j = g j
theorem JK.relax {op : Nat → Prop} {w : Nat → Nat → Int} {s : Nat} {b : Int} {g f : ar_T} {c n : Nat} {v : Int32} (hw : ∀ c n, 0 < w c n) (hs : s < 64) (hb : 0 ≤ b) (h : JK op w s b g f) (hc : c < 64) (ha : adj c n) (hop : op n) (hv : v.toInt = (f c).toInt + w c n) (hlt : v.toInt < (f n).toInt) : JK op w s b g (upd f n v) ∧ muK (upd f n v) < muK f := by
  have hn := ha.1
  have hcF : (f c).toInt < FAR_ := by
    have h1 := (h.1.2.1 n hn).2
    have h2 := hw c n
    have h3 : toI f n = (f n).toInt := rfl
    omega
  have hr := LJ.relax (g := toI (upd f n v)) (fun c n _ _ => hw c n) h.1 hc hcF ha hop (by show (f c).toInt + w c n < (f n).toInt; omega) (fun k hk => by
    show (upd f n v k).toInt = _
    by_cases q : k = n
    · rw [if_pos q, q, upd_s, hv]
    · rw [if_neg q, upd_n q]) hs
  refine ⟨⟨hr.1, fun j hj => ?_⟩, muK_upd hn (fun c hc => ?_) ?_ hlt⟩
  · rw [upd_n (by omega)]; exact h.2 j hj
  · have := (h.1.2.1 c hc).1
    have h3 : toI f c = (f c).toInt := rfl
    omega
  · have h1 := (h.1.2.1 c hc).1
    have h2 := hw c n
    have h3 : toI f c = (f c).toInt := rfl
    omega
theorem JK.far {op : Nat → Prop} {w : Nat → Nat → Int} {s : Nat} {b : Int} {g f : ar_T} (h : JK op w s b g f) {c : Nat} (hc : c < 64) : b ≤ (f c).toInt ∧ (f c).toInt ≤ FAR_ := h.1.2.1 c hc
theorem JK.LC {op : Nat → Prop} {w : Nat → Nat → Int} {s : Nat} {b : Int} {g f : ar_T} (h : JK op w s b g f) (hR : ∀ c, c < 64 → ∀ q, q < 4 → RK op w s c q f) : LC op w s b (toI f) := by
  refine h.1.LC fun c n hc hcF ha hop hns => ?_
  obtain ⟨hn, q, hq, e⟩ := ha
  subst e
  exact hR c hc q hq hcF hn hop hns
theorem far_int : (1000000000 : Int32).toInt = FAR_ := by decide
theorem far_eq {x : Int32} : x = (1000000000 : Int32) ↔ x.toInt = FAR_ := by rw [i_eq, far_int]
abbrev opM (σ : st_T) : Nat → Prop := fun n => gA_ σ 112 0 n ≠ 1
noncomputable abbrev wM (σ : st_T) : Nat → Nat → Int := wP (gF_ σ 109 23 0) (gA_ σ 154 0) (gA_ σ 155 0)
abbrev scM (σ : st_T) : Prop := scK (gF_ σ 109 23 0) (gA_ σ 154 0) (gA_ σ 155 0)
theorem X10_findCosts_pass {σ : st_T} (hsc : scM σ) {s : Nat} (hs : s < 64) (g : ar_T) (kk : st_T → Int32 → Option st_T) (f : ar_T) (hJ : JK (opM σ) (wM σ) s 0 g f) :
    ∃ f' x', m_X10_findCosts_L40 kk fu_ (sA_ σ 156 0 f) 0 (I_ 0) = kk (sA_ σ 156 0 f') x' ∧ JK (opM σ) (wM σ) s 0 g f' ∧ ((x' = 0 ∧ f' = f ∧ ∀ c, c < 64 → ∀ w, w < 4 → RK (opM σ) (wM σ) s c w f) ∨ (x' = 1 ∧ muK f' < muK f)) := by
  refine pass_ (fun _ => True) (R := fun c w f => RK (opM σ) (wM σ) s c w f) (J := JK (opM σ) (wM σ) s 0 g) (mu := muK)
    (lc := fun n f x c => m_X10_findCosts_L40 kk n (sA_ σ 156 0 f) x (I_ c))
    (lw := fun n m f x c w => m_X10_findCosts_L64 (m_X10_findCosts_L151 (m_X10_findCosts_L40 kk n)) m (sA_ σ 156 0 f) x (I_ c) (I_ w))
    (k := fun f x => kk (sA_ σ 156 0 f) x) ?_ ?_ ?_ ?_ f hJ
  · intro n f x
    show m_X10_findCosts_L40 kk (n + 1) _ _ _ = _
    rw [m_X10_findCosts_L40, if_pos ((le_64 (by omega)).mpr (Nat.le_refl _))]
  · intro n f x c hc hJ
    show (m_X10_findCosts_L40 kk (n + 1) _ _ _ = _ ∧ _) ∨ (m_X10_findCosts_L40 kk (n + 1) _ _ _ = _ ∧ _)
    rw [m_X10_findCosts_L40, if_neg (fun q => absurd ((le_64 (by omega)).mp q) (by omega)), if_pos ((I_inb (by omega)).mpr hc), I_nat (by omega), gA_same]
    by_cases hF : f c = (1000000000 : Int32)
    · refine Or.inl ⟨by rw [if_pos hF]; unfold m_X10_findCosts_L151; rw [I_one], fun w _ h => ?_⟩
      rw [far_eq] at hF
      omega
    · exact Or.inr ⟨by rw [if_neg hF]; rfl, trivial⟩
  · intro n m f x c hc
    show m_X10_findCosts_L64 _ (m + 1) _ _ _ _ = _
    rw [m_X10_findCosts_L64, if_pos ((le_4 (by omega)).mpr (Nat.le_refl _))]
    unfold m_X10_findCosts_L151
    rw [I_one]
  · intro n m f x c w hc hw _ hJ
    show (m_X10_findCosts_L64 _ (m + 1) _ _ _ _ = _ ∧ _) ∨ ∃ f', m_X10_findCosts_L64 _ (m + 1) _ _ _ _ = _ ∧ _
    rw [m_X10_findCosts_L64, if_neg (fun q => absurd ((le_4 (by omega)).mp q) (by omega)), X10_nb hc hw, Option.bind_some]
    by_cases h64 : nb c w = 64
    · refine Or.inl ⟨by rw [if_pos h64, if_pos rfl]; unfold m_X10_findCosts_L145; rw [I_one], fun _ h => by omega⟩
    · have hn : nb c w < 64 := by have := nb_le c w hc hw; omega
      have ha := adj_nb hw hn
      rw [if_neg h64, if_neg (I_neg (by omega)), if_pos ((I_inb (by omega)).mpr hn), I_nat (by omega), gA_ne (by decide)]
      by_cases hk : gA_ σ 112 0 (nb c w) = 1
      · exact Or.inl ⟨by rw [if_pos hk]; unfold m_X10_findCosts_L145; rw [I_one], fun _ _ h => absurd hk h⟩
      · rw [if_neg hk, if_pos ((I_inb (by omega)).mpr hc), X10_step hc ha, Option.bind_some, I_nat (by omega), gA_same, gA_ne (by decide), gA_ne (by decide), gF_sA]
        have hF9 : FAR_ = 1000000000 := rfl
        have hst := step_int hsc hc ha
        have hw1 := wP_adj hsc hc ha
        have hfc := hJ.far hc
        generalize hv : (gF_ σ 109 23 0 + gA_ σ 154 0 (eix c (nb c w)) + gA_ σ 155 0 (nb c w)) = v at hst ⊢
        have hsum : (f c + v).toInt = (f c).toInt + wM σ c (nb c w) := by
          rw [i_add (by rw [hst]; omega) (by rw [hst]; omega), hst]
        by_cases hlt : f c + v < f (nb c w)
        · refine Or.inr ⟨upd f (nb c w) (f c + v), ?_, JK.relax (fun _ _ => wP_pos) hs (by omega) hJ hc ha hk hsum (i_lt.mp hlt)⟩
          rw [if_pos hlt, Option.bind_some, lt_def, sE_up]
          unfold m_X10_findCosts_L145
          rw [I_one]
        · refine Or.inl ⟨by rw [if_neg hlt]; unfold m_X10_findCosts_L145; rw [I_one], fun _ _ _ _ => ?_⟩
          rw [i_lt, hsum] at hlt
          omega
theorem X10_findCosts {σ : st_T} (hsc : scM σ) {s : Nat} (hs : s < 64) : ∃ f : ar_T, m_X10_findCosts σ (I_ s) = some (sA_ σ 156 0 f) ∧ LC (opM σ) (wM σ) s 0 (toI f) ∧ ∀ j, 64 ≤ j → f j = gA_ σ 156 0 j := by
  have start : m_X10_findCosts σ (I_ s) = m_X10_findCosts_L32 fu_ (sA_ σ 156 0 (upd (fil 64 (fun _ => 1000000000) (gA_ σ 156 0)) s 0)) 1 := by
    unfold m_X10_findCosts
    obtain ⟨σ', e, h⟩ := upto (N := 64) (lp := fun n (σ' : st_T) c => m_X10_findCosts_L2 n σ' (I_ s) (I_ c)) (k := fun σ' => m_X10_findCosts_L32 fu_ (sE_ σ' 156 0 s 0) 1)
      (inv := fun c σ' => σ' = sA_ σ 156 0 (fil c (fun _ => 1000000000) (gA_ σ 156 0)))
      (fun n σ' h => by
        show m_X10_findCosts_L2 (n + 1) _ _ _ = _
        rw [m_X10_findCosts_L2, if_pos ((le_64 (by omega)).mpr (Nat.le_refl _)), if_pos ((I_inb (by omega)).mpr hs), I_nat (by omega), lt_def])
      (fun c n σ' hc h => by
        refine ⟨sE_ σ' 156 0 c 1000000000, ?_, ?_⟩
        · show m_X10_findCosts_L2 (n + 1) _ _ _ = _
          rw [m_X10_findCosts_L2, if_neg (fun q => absurd ((le_64 (by omega)).mp q) (by omega)), if_pos ((I_inb (by omega)).mpr hc), I_nat (by omega), lt_def, I_one]
        · rw [h, sE_up, fil_s (v := fun _ => 1000000000)])
      0 fu_ σ (by omega) (fu_big (by omega)) (by rw [fil_0, sA_id])
    rw [h, sE_up] at e
    exact e
  rw [start]
  have hJ0 : JK (opM σ) (wM σ) s 0 (gA_ σ 156 0) (upd (fil 64 (fun _ => 1000000000) (gA_ σ 156 0)) s 0) := by
    refine ⟨LJ.start (by decide) ?_ fun c hc hcs => ?_, fun j hj => ?_⟩
    · show (upd _ s 0 s).toInt = 0
      rw [upd_s]; rfl
    · show (upd _ s 0 c).toInt = _
      rw [upd_n hcs, fil_at hc, far_int]
    · rw [upd_n (by omega), fil_ge hj]
  obtain ⟨f', e, hJ', hR⟩ := fix_ (R := fun c w f => RK (opM σ) (wM σ) s c w f) (J := JK (opM σ) (wM σ) s 0 (gA_ σ 156 0)) (mu := muK)
    (lo := fun n f x => m_X10_findCosts_L32 n (sA_ σ 156 0 f) x) (fin := fun f => some (sA_ σ 156 0 f))
    (fun n f => by show m_X10_findCosts_L32 (n + 1) _ _ = _; rw [m_X10_findCosts_L32, if_pos rfl])
    (fun n f hJ => by
      show ∃ f' x', m_X10_findCosts_L32 (n + 1) _ _ = _ ∧ _
      rw [m_X10_findCosts_L32, if_neg (by decide)]
      exact X10_findCosts_pass hsc hs (gA_ σ 156 0) (m_X10_findCosts_L32 n) f hJ)
    fu_ _ hJ0 (by
      have := muK_hi (f := upd (fil 64 (fun _ => 1000000000) (gA_ σ 156 0)) s 0) (fun c hc => (hJ0.far hc).2)
      have h9 : fu_ = 1000000000000 := rfl
      omega)
  exact ⟨f', e, hJ'.LC hR, hJ'.2⟩
