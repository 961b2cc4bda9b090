/-! ===== the model's night ===== -/
set_option maxRecDepth 100000
/-- what may have changed in the model: arrays A, fields F -/
def fra (A F : List Nat) (σ σ' : st_T) : Prop := (∀ r j, r ∉ A → gA_ σ' r j = gA_ σ r j) ∧ (∀ r k j, (r ≠ 109 ∨ k ∉ F) → gF_ σ' r k j = gF_ σ r k j) ∧ gP_ σ' = gP_ σ ∧ gN_ σ' = gN_ σ ∧ gO_ σ' = gO_ σ
theorem fra.rf {A F : List Nat} {σ : st_T} : fra A F σ σ := ⟨fun _ _ _ => rfl, fun _ _ _ _ => rfl, rfl, rfl, rfl⟩
theorem fra.tr {A F : List Nat} {σ σ1 σ2 : st_T} (h : fra A F σ σ1) (k : fra A F σ1 σ2) : fra A F σ σ2 :=
  ⟨fun r j hr => (k.1 r j hr).trans (h.1 r j hr), fun r q j hr => (k.2.1 r q j hr).trans (h.2.1 r q j hr), k.2.2.1.trans h.2.2.1, k.2.2.2.1.trans h.2.2.2.1, k.2.2.2.2.trans h.2.2.2.2⟩
theorem fra.mono {A F A' F' : List Nat} {σ σ' : st_T} (h : fra A F σ σ') (hA : ∀ r, r ∈ A → r ∈ A') (hF : ∀ k, k ∈ F → k ∈ F') : fra A' F' σ σ' :=
  ⟨fun r j hr => h.1 r j (fun z => hr (hA r z)), fun r k j hr => h.2.1 r k j (hr.imp id (fun z z2 => z (hF k z2))), h.2.2⟩
theorem fra.sA {A F : List Nat} {σ : st_T} {r i : Nat} {f : ar_T} (h : r ∈ A) : fra A F σ (sA_ σ r i f) :=
  ⟨fun r' j hr => gA_ne (fun z => hr (z ▸ h)), fun _ _ _ _ => rfl, rfl, rfl, rfl⟩
theorem fra.sE {A F : List Nat} {σ : st_T} {r i j : Nat} {v : Int32} (h : r ∈ A) : fra A F σ (sE_ σ r i j v) := fra.sA h
theorem fra.sF {A F : List Nat} {σ : st_T} {k i : Nat} {v : Int32} (h : k ∈ F) : fra A F σ (sF_ σ 109 k i v) :=
  ⟨fun _ _ _ => rfl, fun r' k' j hr => by
    rcases hr with hr | hr
    · exact gF_nr hr
    · exact gF_nk (fun z => hr (z ▸ h)), rfl, rfl, rfl⟩
def lkM (σ : st_T) : Nat → Int32 → Int32 := fun c mo => if c < 4 then gA_ σ 137 0 (12 * c + (if gA_ σ 138 0 c ≤ mo then gA_ σ 138 0 c - 1 else mo).toNatClampNeg) else 0
def envM (σ : st_T) : en_T := ((cut 64 (gA_ σ 112 0), cut 64 (gA_ σ 113 0), cut 64 (gA_ σ 114 0)), (gF_ σ 109 23 0, gF_ σ 109 24 0, gF_ σ 109 25 0), lkM σ, (gF_ σ 109 39 0).toInt.toNat, (fun h => if h < (gF_ σ 109 39 0).toInt.toNat then (gA_ σ 150 0 h).toInt.toNat else 0), fun h => if h < (gF_ σ 109 39 0).toInt.toNat then gA_ σ 151 0 h else 0)
def vM (σ : st_T) : sn_T := (cut 64 (gA_ σ 153 0), cut 64 (gA_ σ 155 0), cut 128 (gA_ σ 154 0), cut 10 (gA_ σ 166 0), gF_ σ 109 52 0)
abbrev nA : List Nat := [153, 154, 155, 156, 157, 158, 166]
abbrev nF : List Nat := [49, 52]
theorem envM_fra {σ σ' : st_T} (h : fra nA nF σ σ') : envM σ' = envM σ := by
  unfold envM lkM
  rw [h.1 112 0 (by decide), h.1 113 0 (by decide), h.1 114 0 (by decide), h.1 137 0 (by decide), h.1 138 0 (by decide), h.1 150 0 (by decide), h.1 151 0 (by decide), h.2.1 109 23 0 (Or.inr (by decide)), h.2.1 109 24 0 (Or.inr (by decide)), h.2.1 109 25 0 (Or.inr (by decide)), h.2.1 109 39 0 (Or.inr (by decide))]
theorem lim_ {x : Int32} : (if x ≤ (1000 : Int32) then x else 1000) = imin x 1000 := by
  unfold imin
  by_cases h : x ≤ 1000
  · rw [if_pos h, if_neg (fun z => by rw [i_le] at h; rw [i_lt] at z; omega)]
  · rw [if_neg h, if_pos (by rw [i_le] at h; rw [i_lt]; omega)]
theorem X10_scares {σ : st_T} {c : Nat} (hc : c < 64) : m_X10_scares σ (I_ c) = some (sA_ σ 155 0 (frS (gF_ σ 109 24 0) (gA_ σ 155 0) c)) := by
  have e0 : m_X10_scares σ (I_ c) = m_X10_scares_L42 fu_ (sA_ σ 155 0 (frW (gF_ σ 109 24 0 / 2) c 0 (upd (gA_ σ 155 0) c (imin (gA_ σ 155 0 c + gF_ σ 109 24 0) 1000)))) (I_ c) (I_ 0) := by
    unfold m_X10_scares m_X10_scares_L39
    have ec : (I_ c).toNatClampNeg = c := I_nat (by omega)
    rw [if_pos ((I_inb (by omega)).mpr hc)]
    simp only [ec]
    rw [← lim_]
    by_cases h : gA_ σ 155 0 c + gF_ σ 109 24 0 ≤ 1000
    · rw [if_pos h, if_pos h, if_pos ((I_inb (by omega)).mpr hc), lt_def]; rfl
    · rw [if_neg h, if_neg h, if_pos ((I_inb (by omega)).mpr hc), lt_def]; rfl
  rw [e0]
  obtain ⟨σ', e, h⟩ := upto (N := 4) (lp := fun n (σ' : st_T) w => m_X10_scares_L42 n σ' (I_ c) (I_ w)) (k := fun σ' => some σ')
    (inv := fun w σ' => σ' = sA_ σ 155 0 (frW (gF_ σ 109 24 0 / 2) c w (upd (gA_ σ 155 0) c (imin (gA_ σ 155 0 c + gF_ σ 109 24 0) 1000))))
    (fun n σ' _ => by show m_X10_scares_L42 (n + 1) _ _ _ = _; rw [m_X10_scares_L42, if_pos ((le_4 (by omega)).mpr (Nat.le_refl _))])
    (fun w n σ' hw hi => by
      refine ⟨_, ?_, rfl⟩
      show m_X10_scares_L42 (n + 1) _ _ _ = _
      rw [hi, m_X10_scares_L42, if_neg (fun q => absurd ((le_4 (by omega)).mp q) (by omega)), X10_nb hc hw, Option.bind_some]
      unfold m_X10_scares_L101 m_X10_scares_L102
      rw [I_one, frW]
      by_cases h64 : nb c w = 64
      · rw [if_pos h64, if_pos rfl, if_pos h64]
      · have hn : nb c w < 64 := by have := nb_le c w hc hw; omega
        have ec : (I_ (nb c w)).toNatClampNeg = nb c w := I_nat (by omega)
        rw [if_neg h64, if_neg (I_neg (by omega)), if_pos ((I_inb (by omega)).mpr hn)]
        simp only [ec]
        rw [gA_same, gF_sA, if_neg h64]
        generalize frW (gF_ σ 109 24 0 / 2) c w (upd (gA_ σ 155 0) c (imin (gA_ σ 155 0 c + gF_ σ 109 24 0) 1000)) = E1
        rw [← lim_]
        by_cases h : E1 (nb c w) + gF_ σ 109 24 0 / 2 ≤ 1000
        · rw [if_pos h, if_pos h, if_pos ((I_inb (by omega)).mpr hn), lt_def, sE_up]
        · rw [if_neg h, if_neg h, if_pos ((I_inb (by omega)).mpr hn), lt_def, sE_up])
    0 fu_ _ (by omega) (fu_big (by omega)) rfl
  have e : m_X10_scares_L42 fu_ _ (I_ c) (I_ 0) = some σ' := e
  rw [e, h]
  rfl
theorem frW_cut {h : Int32} {c : Nat} (hc : c < 64) : ∀ w, w ≤ 4 → ∀ E : ar_T, cut 64 (frW h c w E) = frW h c w (cut 64 E) := by
  intro w
  induction w with
  | zero => intro _ E; rfl
  | succ w ih =>
    intro hw E
    rw [frW, frW]
    by_cases z : nb c w = 64
    · rw [if_pos z, if_pos z]; exact ih (by omega) E
    · have hn : nb c w < 64 := by have := nb_le c w hc (by omega); omega
      rw [if_neg z, if_neg z, cut_upd hn, ih (by omega), ← ih (by omega), cut_at hn]
theorem frS_cut {sc : Int32} {E : ar_T} {c : Nat} (hc : c < 64) : cut 64 (frS sc E c) = frS sc (cut 64 E) c := by
  unfold frS
  rw [frW_cut hc 4 (by omega), cut_upd hc, cut_at hc]
theorem X10_eats {σ : st_T} (he : okE (envM σ)) {c : Nat} {much : Int32} (hc : c < 64) : ∃ σ', m_X10_eats σ (I_ c) much = some σ' ∧ vM σ' = eatS (envM σ) (vM σ) c much ∧ fra [153, 166] [52] σ σ' := by
  have hF : eF (envM σ) c = gA_ σ 113 0 c := cut_at hc
  have hf : 0 ≤ (gA_ σ 113 0 c).toInt ∧ (gA_ σ 113 0 c).toInt < 10 := by
    have := he.2.2.2.1 c hc
    rw [hF] at this
    exact this
  obtain ⟨fm, hfm⟩ : ∃ fm : Nat, fm = (gA_ σ 113 0 c).toInt.toNat := ⟨_, rfl⟩
  have hfI : gA_ σ 113 0 c = I_ fm := by rw [hfm]; exact I_of hf.1
  have hfm10 : fm < 10 := by omega
  have key : m_X10_eats σ (I_ c) much = m_X10_eats_L20 σ (I_ c) (imin (gA_ σ 153 0 c) much) := by
    unfold m_X10_eats imin
    rw [if_pos ((I_inb (by omega)).mpr hc), I_nat (by omega)]
    by_cases h : gA_ σ 153 0 c ≤ much
    · rw [if_pos h, if_neg (fun z => by rw [i_le] at h; rw [i_lt] at z; omega)]
    · rw [if_neg h, if_pos (by rw [i_le] at h; rw [i_lt]; omega)]
  rw [key]
  unfold m_X10_eats_L20
  rw [if_pos ((I_inb (by omega)).mpr hc), lt_def, I_nat (by omega), gAE_ne (by decide), hfI, if_pos ((I_inb (by omega)).mpr hfm10), lt_def, lt_def, I_nat (by omega), gAE_ne (by decide), gF_sE, gF_sE]
  refine ⟨_, rfl, ?_, ?_⟩
  · unfold vM eatS
    have e1 : ∀ v, gA_ (sF_ (sE_ (sE_ σ 153 0 c (gA_ σ 153 0 c - imin (gA_ σ 153 0 c) much)) 166 0 fm (gA_ σ 166 0 fm + imin (gA_ σ 153 0 c) much)) 109 52 0 v) 153 0 = upd (gA_ σ 153 0) c (gA_ σ 153 0 c - imin (gA_ σ 153 0 c) much) := fun v => by rw [gA_sF, gAE_ne (by decide), gAE_s]
    have e2 : ∀ v, gA_ (sF_ (sE_ (sE_ σ 153 0 c (gA_ σ 153 0 c - imin (gA_ σ 153 0 c) much)) 166 0 fm (gA_ σ 166 0 fm + imin (gA_ σ 153 0 c) much)) 109 52 0 v) 166 0 = upd (gA_ σ 166 0) fm (gA_ σ 166 0 fm + imin (gA_ σ 153 0 c) much) := fun v => by rw [gA_sF, gAE_s, gAE_ne (by decide)]
    have e3 : ∀ r v, r ≠ 153 → r ≠ 166 → gA_ (sF_ (sE_ (sE_ σ 153 0 c (gA_ σ 153 0 c - imin (gA_ σ 153 0 c) much)) 166 0 fm (gA_ σ 166 0 fm + imin (gA_ σ 153 0 c) much)) 109 52 0 v) r 0 = gA_ σ r 0 := fun r v h1 h2 => by rw [gA_sF, gAE_ne h2, gAE_ne h1]
    rw [e1, e2, e3 155 _ (by decide) (by decide), e3 154 _ (by decide) (by decide), gF_s, cut_upd hc, cut_upd hfm10, hF, ← hfm]
    show _ = (upd (cut 64 (gA_ σ 153 0)) c (cut 64 (gA_ σ 153 0) c - imin (cut 64 (gA_ σ 153 0) c) much), cut 64 (gA_ σ 155 0), cut 128 (gA_ σ 154 0), upd (cut 10 (gA_ σ 166 0)) fm (cut 10 (gA_ σ 166 0) fm + imin (cut 64 (gA_ σ 153 0) c) much), gF_ σ 109 52 0 + imin (cut 64 (gA_ σ 153 0) c) much)
    rw [cut_at hc, cut_at hfm10]
  · exact ((fra.sE (by decide)).tr (fra.sE (by decide))).tr (fra.sF (by decide))
theorem X10_likeIn {σ : st_T} {c mo : Int32} (hc : 0 ≤ c.toInt ∧ c.toInt < 4) (hm : 0 ≤ mo.toInt ∧ mo.toInt < 12) (hy : ∀ k, k < 4 → 1 ≤ (gA_ σ 138 0 k).toInt ∧ (gA_ σ 138 0 k).toInt ≤ 12) : m_X10_likeIn σ c mo = some (lkM σ c.toInt.toNat mo) := by
  obtain ⟨k, hk⟩ : ∃ k : Nat, k = c.toInt.toNat := ⟨_, rfl⟩
  have e : c = I_ k := by rw [hk]; exact I_of hc.1
  have hk4 : k < 4 := by omega
  have hkk := hy k hk4
  rw [← hk, e]
  have e12 : (12 : Int32) * I_ k = I_ (12 * k) := (Int32.ofNat_mul 12 k).symm
  have one : (1 : Int32).toInt = 1 := by decide
  have idx : ∀ x : Int32, 0 ≤ x.toInt → x.toInt < 12 → inb (I_ (12 * k) + x) 48 ∧ (I_ (12 * k) + x).toNatClampNeg = 12 * k + x.toNatClampNeg := fun x h1 h2 => by
    have ei : (I_ (12 * k) + x).toInt = 12 * k + x.toInt := by rw [i_add (by rw [I_int (by omega)]; omega) (by rw [I_int (by omega)]; omega), I_int (by omega)]; omega
    refine ⟨i_inb.mpr ⟨by omega, by omega⟩, ?_⟩
    show (I_ (12 * k) + x).toInt.toNat = 12 * k + x.toInt.toNat
    omega
  unfold m_X10_likeIn m_X10_likeIn_L30 lkM
  rw [if_pos ((I_inb (by omega)).mpr hk4), I_nat (by omega), if_pos hk4, e12]
  by_cases h : gA_ σ 138 0 k ≤ mo
  · have hx := idx (gA_ σ 138 0 k - 1) (by rw [i_sub (by omega) (by omega)]; omega) (by rw [i_sub (by omega) (by omega)]; omega)
    rw [if_pos h, if_pos h, if_pos hx.1, hx.2]
  · have hx := idx mo hm.1 (by omega)
    rw [if_neg h, if_neg h, if_pos hx.1, hx.2]
theorem mo_ok {n : Int32} (h : 0 ≤ n.toInt ∧ n.toInt < 1000000) : 0 ≤ (moS n).toInt ∧ (moS n).toInt < 12 := by
  have e30 : (30 : Int32).toInt = 30 := by decide
  have e12 : (12 : Int32).toInt = 12 := by decide
  have d1 : (n / 30).toInt = n.toInt / 30 := by
    rw [Int32.toInt_div, e30, Int.tdiv_eq_ediv_of_nonneg h.1, i_bmod (by omega) (by omega)]
  have d2 : (n / 30 / 12).toInt = n.toInt / 30 / 12 := by
    rw [Int32.toInt_div, d1, e12, Int.tdiv_eq_ediv_of_nonneg (by omega), i_bmod (by omega) (by omega)]
  have d3 : (n / 30 / 12 * 12).toInt = n.toInt / 30 / 12 * 12 := by
    rw [i_mul (by rw [d2, e12]; omega) (by rw [d2, e12]; omega), d2, e12]
  have d4 : (moS n).toInt = n.toInt / 30 - n.toInt / 30 / 12 * 12 := by
    show (n / 30 - n / 30 / 12 * 12).toInt = _
    rw [i_sub (by rw [d1, d3]; omega) (by rw [d1, d3]; omega), d1, d3]
  rw [d4]
  omega
/-- the scene stands as it may -/
def okM (σ : st_T) : Prop := okE (envM σ) ∧ okX (vM σ) ∧ (∀ k, k < 4 → 1 ≤ (gA_ σ 138 0 k).toInt ∧ (gA_ σ 138 0 k).toInt ≤ 12) ∧ 0 ≤ (gF_ σ 109 39 0).toInt ∧ ∀ k, k < 4 → 0 ≤ (gA_ σ 150 0 k).toInt
theorem okM.nh {σ : st_T} (h : okM σ) : gF_ σ 109 39 0 = I_ (eN (envM σ)) ∧ eN (envM σ) ≤ 4 := ⟨I_of h.2.2.2.1, h.1.2.2.2.2.2.1⟩
theorem okM.ho {σ : st_T} (h : okM σ) {k : Nat} (hk : k < eN (envM σ)) : gA_ σ 150 0 k = I_ (eHo (envM σ) k) ∧ eHo (envM σ) k < 64 ∧ gA_ σ 151 0 k = eHu (envM σ) k := by
  have h2 := h.1.2.2.2.2.2.2 k hk
  have e1 : eHo (envM σ) k = (gA_ σ 150 0 k).toInt.toNat := if_pos hk
  have e2 : eHu (envM σ) k = gA_ σ 151 0 k := if_pos hk
  have h4 := h.nh.2
  exact ⟨by rw [e1]; exact I_of (h.2.2.2.2 k (by omega)), h2.1, e2.symm⟩
theorem okM.sc {σ : st_T} (h : okM σ) : scM σ := by
  have h2 := h.2.1.sc h.1
  refine ⟨h2.1, fun e he => ?_, fun c hc => ?_⟩
  · have := h2.2.1 e he
    rw [show sN (vM σ) e = gA_ σ 154 0 e from cut_at he] at this
    exact this
  · have := h2.2.2 c hc
    rw [show sE (vM σ) c = gA_ σ 155 0 c from cut_at hc] at this
    exact this
theorem eix_lt2 {c n : Nat} (hc : c < 64) (hn : n < 64) : eix c n < 128 := by
  unfold eix
  by_cases h : c + 8 = n ∨ n + 8 = c
  · rw [if_pos h]; omega
  · rw [if_neg h]; omega
theorem okM.op {σ : st_T} (n : Nat) (hn : n < 64) : opM σ n ↔ eOp (envM σ) n := by
  show gA_ σ 112 0 n ≠ 1 ↔ cut 64 (gA_ σ 112 0) n ≠ 1
  rw [cut_at hn]
theorem okM.w {σ : st_T} (c n : Nat) (hc : c < 64) (hn : n < 64) : wM σ c n = eW (envM σ) (vM σ) c n := by
  have e1 : sN (vM σ) (eix c n) = gA_ σ 154 0 (eix c n) := cut_at (eix_lt2 hc hn)
  have e2 : sE (vM σ) n = gA_ σ 155 0 n := cut_at hn
  unfold wM eW wP wK
  rw [e1, e2]
  rfl
/-- the costs of the model are those of the picture -/
theorem X10_costs {σ : st_T} (h : okM σ) {s : Nat} (hs : s < 64) : ∃ f, m_X10_findCosts σ (I_ s) = some (sA_ σ 156 0 f) ∧ ∀ c, c < 64 → f c = dsS (envM σ) (vM σ) s c := by
  obtain ⟨f, e, hLC, -⟩ := X10_findCosts h.sc hs
  refine ⟨f, e, fun c hc => ?_⟩
  have hLC' := LC_congr okM.op okM.w hLC
  have := dis_eq (fun c n _ _ => wP_pos) hLC' c hc
  unfold dsS
  rw [← this]
  exact (of_toI (x := f c)).symm

