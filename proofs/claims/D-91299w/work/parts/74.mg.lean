/-! ===== the model: fear, nights foretold, the scene ===== -/
set_option maxRecDepth 100000
def feS (sc : Int32) (wc : Nat → Nat) (nw : Nat) (xc : Nat → Nat) (nx : Nat) (x : sn_T) : sn_T := (sS x, frL sc xc nx (frL sc wc nw (sE x)), sN x, sL x, sT x)
def clS (x : sn_T) : sn_T := (sS x, sE x, sN x, (fun _ => 0), 0)
def wcM (σ : st_T) : Nat → Nat := fun j => (gA_ σ 164 0 j).toInt.toNat
def nwM (σ : st_T) : Nat := (gF_ σ 109 50 0).toInt.toNat
def xcM (σ : st_T) : Nat → Nat := fun j => (gA_ σ 165 0 j).toInt.toNat
def nxM (σ : st_T) : Nat := (gF_ σ 109 51 0).toInt.toNat
def okF (σ : st_T) : Prop := (0 ≤ (gF_ σ 109 50 0).toInt ∧ nwM σ ≤ 10 ∧ ∀ j, j < nwM σ → 0 ≤ (gA_ σ 164 0 j).toInt ∧ wcM σ j < 64) ∧ (0 ≤ (gF_ σ 109 51 0).toInt ∧ nxM σ ≤ 3 ∧ ∀ j, j < nxM σ → 0 ≤ (gA_ σ 165 0 j).toInt ∧ xcM σ j < 64)
noncomputable def feM (σ : st_T) (x : sn_T) : sn_T := feS (gF_ σ 109 24 0) (wcM σ) (nwM σ) (xcM σ) (nxM σ) x
theorem frL_cut {sc : Int32} {cs : Nat → Nat} {E : ar_T} : ∀ k, (∀ j, j < k → cs j < 64) → cut 64 (frL sc cs k E) = frL sc cs k (cut 64 E) := by
  intro k
  induction k with
  | zero => intro _; rfl
  | succ k ih =>
    intro h
    rw [frL, frL, frS_cut (h k (by omega)), ih (fun j hj => h j (by omega))]
theorem okX.fe {e : en_T} {x : sn_T} {wc xc : Nat → Nat} {nw nx : Nat} (he : okE e) (h : okX x) : okX (feS (eSc e) wc nw xc nx x) :=
  ⟨h.1, frL_ok he.2.1 (frL_ok he.2.1 h.2.1 nw) nx, h.2.2⟩
theorem X10_pass0 {σ : st_T} (h : okM σ) {n : Int32} (hm : 0 ≤ n.toInt ∧ n.toInt < 1000000) : ∃ σ', m_X10_passes σ n 0 = some σ' ∧ vM σ' = niS (envM σ) n (vM σ) ∧ fra nA nF σ σ' ∧ okM σ' := by
  unfold m_X10_passes
  rw [if_pos rfl]
  exact X10_night h hm
theorem X10_pass1 {σ : st_T} (h : okM σ) (hw : okF σ) {n : Int32} (hm : 0 ≤ n.toInt ∧ n.toInt < 1000000) : ∃ σ', m_X10_passes σ n 1 = some σ' ∧ vM σ' = niS (envM σ) n (feM σ (vM σ)) ∧ fra nA nF σ σ' ∧ okM σ' := by
  obtain ⟨⟨a1, a2, a3⟩, ⟨b1, b2, b3⟩⟩ := hw
  have ea : gF_ σ 109 50 0 = I_ (nwM σ) := I_of a1
  have eb : gF_ σ 109 51 0 = I_ (nxM σ) := I_of b1
  unfold m_X10_passes
  rw [if_neg (by decide)]
  obtain ⟨σ1, e1, h1⟩ := upto (N := nwM σ) (lp := fun m (σ' : st_T) k => m_X10_passes_L6 m_X10_passes_L56 m σ' n (I_ k)) (k := fun σ' => m_X10_passes_L32 m_X10_passes_L56 fu_ σ' n (I_ 0))
    (inv := fun k σ' => σ' = sA_ σ 155 0 (frL (gF_ σ 109 24 0) (wcM σ) k (gA_ σ 155 0)))
    (fun m σ' hi => by
      show m_X10_passes_L6 _ (m + 1) _ _ _ = _
      rw [m_X10_passes_L6, hi, gF_sA, ea, if_pos (by rw [i_le]; exact Int.le_refl _)]; rfl)
    (fun k m σ' hk hi => by
      refine ⟨_, ?_, rfl⟩
      show m_X10_passes_L6 _ (m + 1) _ _ _ = _
      have ek : (I_ k).toNatClampNeg = k := I_nat (by omega)
      have ec : gA_ σ 164 0 k = I_ (wcM σ k) := I_of (a3 k hk).1
      rw [m_X10_passes_L6, hi, gF_sA, ea, if_neg (fun z => absurd ((I_le (by omega) (by omega)).mp z) (by omega)), if_pos ((I_inb (by omega)).mpr (by omega)), ek, gA_ne (by decide), ec, X10_scares (a3 k hk).2, Option.bind_some, I_one, gF_sA, gA_same, sA_sA]
      rfl)
    0 fu_ σ (by omega) (fu_big (by omega)) (by rw [frL, sA_id])
  have e1 : m_X10_passes_L6 m_X10_passes_L56 fu_ σ n 0 = _ := e1
  rw [e1, h1]
  obtain ⟨σ2, e2, h2⟩ := upto (N := nxM σ) (lp := fun m (σ' : st_T) k => m_X10_passes_L32 m_X10_passes_L56 m σ' n (I_ k)) (k := fun σ' => m_X10_passes_L56 σ' n)
    (inv := fun k σ' => σ' = sA_ σ 155 0 (frL (gF_ σ 109 24 0) (xcM σ) k (frL (gF_ σ 109 24 0) (wcM σ) (nwM σ) (gA_ σ 155 0))))
    (fun m σ' hi => by
      show m_X10_passes_L32 _ (m + 1) _ _ _ = _
      rw [m_X10_passes_L32, hi, gF_sA, eb, if_pos (by rw [i_le]; exact Int.le_refl _)])
    (fun k m σ' hk hi => by
      refine ⟨_, ?_, rfl⟩
      show m_X10_passes_L32 _ (m + 1) _ _ _ = _
      have ek : (I_ k).toNatClampNeg = k := I_nat (by omega)
      have ec : gA_ σ 165 0 k = I_ (xcM σ k) := I_of (b3 k hk).1
      rw [m_X10_passes_L32, hi, gF_sA, eb, if_neg (fun z => absurd ((I_le (by omega) (by omega)).mp z) (by omega)), if_pos ((I_inb (by omega)).mpr (by omega)), ek, gA_ne (by decide), ec, X10_scares (b3 k hk).2, Option.bind_some, I_one, gF_sA, gA_same, sA_sA]
      rfl)
    0 fu_ _ (by omega) (fu_big (by omega)) rfl
  have e2 : m_X10_passes_L32 m_X10_passes_L56 fu_ (sA_ σ 155 0 (frL (gF_ σ 109 24 0) (wcM σ) (nwM σ) (gA_ σ 155 0))) n (I_ 0) = _ := e2
  rw [e2, h2]
  have v3 : vM (sA_ σ 155 0 (frL (gF_ σ 109 24 0) (xcM σ) (nxM σ) (frL (gF_ σ 109 24 0) (wcM σ) (nwM σ) (gA_ σ 155 0)))) = feM σ (vM σ) := by
    unfold feM feS vM
    rw [gA_same, gA_ne (by decide), gA_ne (by decide), gA_ne (by decide), frL_cut _ (fun j hj => (b3 j hj).2), frL_cut _ (fun j hj => (a3 j hj).2)]
    rfl
  have f3 : fra nA nF σ (sA_ σ 155 0 (frL (gF_ σ 109 24 0) (xcM σ) (nxM σ) (frL (gF_ σ 109 24 0) (wcM σ) (nwM σ) (gA_ σ 155 0)))) := fra.sA (by decide)
  have o3 := h.fra f3 (by rw [v3]; exact okX.fe h.1 h.2.1)
  obtain ⟨σ4, e4, v4, f4, o4⟩ := X10_night o3 hm
  exact ⟨σ4, e4, by rw [v4, v3, envM_fra f3], f3.tr f4, o4⟩
theorem X10_clearLost {σ : st_T} : m_X10_clearLost σ = some (sF_ (sA_ σ 166 0 (fil 10 (fun _ => 0) (gA_ σ 166 0))) 109 52 0 0) := by
  unfold m_X10_clearLost
  obtain ⟨σ', e, h⟩ := upto (N := 10) (lp := fun n (σ' : st_T) c => m_X10_clearLost_L2 n σ' (I_ c)) (k := fun σ' => some (sF_ σ' 109 52 0 0))
    (inv := fun c σ' => σ' = sA_ σ 166 0 (fil c (fun _ => 0) (gA_ σ 166 0)))
    (fun n σ' _ => by show m_X10_clearLost_L2 (n + 1) _ _ = _; rw [m_X10_clearLost_L2, if_pos ((le_10 (by omega)).mpr (Nat.le_refl _)), lt_def])
    (fun c n σ' hc hi => by
      refine ⟨_, ?_, rfl⟩
      show m_X10_clearLost_L2 (n + 1) _ _ = _
      have ec : (I_ c).toNatClampNeg = c := I_nat (by omega)
      rw [m_X10_clearLost_L2, if_neg (fun q => absurd ((le_10 (by omega)).mp q) (by omega)), if_pos ((I_inb (by omega)).mpr hc), lt_def, ec, I_one, hi, sE_up]
      rw [fil_s (v := fun _ => (0 : Int32))])
    0 fu_ σ (by omega) (fu_big (by omega)) (by rw [fil_0, sA_id])
  have e : m_X10_clearLost_L2 fu_ σ 0 = _ := e
  rw [e, h]
theorem fra.wM {σ σ' : st_T} (h : fra nA nF σ σ') : feM σ' = feM σ := by
  funext x
  unfold feM wcM nwM xcM nxM
  rw [h.1 164 0 (by decide), h.1 165 0 (by decide), h.2.1 109 50 0 (Or.inr (by decide)), h.2.1 109 51 0 (Or.inr (by decide)), h.2.1 109 24 0 (Or.inr (by decide))]
theorem okF.fra {σ σ' : st_T} (k : okF σ) (h : fra nA nF σ σ') : okF σ' := by
  unfold okF wcM nwM xcM nxM at k ⊢
  rw [h.1 164 0 (by decide), h.1 165 0 (by decide), h.2.1 109 50 0 (Or.inr (by decide)), h.2.1 109 51 0 (Or.inr (by decide))]
  exact k
/-- nights foretold -/
theorem X10_foretells {σ : st_T} (h : okM σ) (hw : okF σ) (hn : 0 ≤ (gF_ σ 109 1 0).toInt ∧ (gF_ σ 109 1 0).toInt < 900000) {k : Nat} (hk : 1 ≤ k ∧ k ≤ 5) :
    ∃ σ', m_X10_foretells σ (I_ k) = some σ' ∧ vM σ' = nsS (envM σ) (gF_ σ 109 1 0) k (feM σ (clS (vM σ))) ∧ fra nA nF σ σ' ∧ okM σ' := by
  unfold m_X10_foretells
  rw [X10_clearLost, Option.bind_some]
  have f0 : fra nA nF σ (sF_ (sA_ σ 166 0 (fil 10 (fun _ => 0) (gA_ σ 166 0))) 109 52 0 0) := (fra.sA (by decide)).tr (fra.sF (by decide))
  have v0 : vM (sF_ (sA_ σ 166 0 (fil 10 (fun _ => 0) (gA_ σ 166 0))) 109 52 0 0) = clS (vM σ) := by
    unfold vM clS
    simp only [gA_sF]
    rw [gA_same, gA_ne (by decide), gA_ne (by decide), gA_ne (by decide), gF_s]
    have : cut 10 (fil 10 (fun _ => 0) (gA_ σ 166 0)) = fun _ => 0 := by
      funext j
      unfold cut
      by_cases z : j < 10
      · rw [if_pos z, fil_at z]
      · rw [if_neg z]
    rw [this]
  have o0 := h.fra f0 (by rw [v0]; exact ⟨h.2.1.1, h.2.1.2.1, h.2.1.2.2⟩)
  generalize sF_ (sA_ σ 166 0 (fil 10 (fun _ => 0) (gA_ σ 166 0))) 109 52 0 0 = σ0 at f0 v0 o0
  have nit : ∀ j, j < 5 → 0 ≤ (gF_ σ 109 1 0 + I_ j).toInt ∧ (gF_ σ 109 1 0 + I_ j).toInt < 1000000 := fun j hj => by
    rw [i_add (by rw [I_int (by omega)]; omega) (by rw [I_int (by omega)]; omega), I_int (by omega)]; omega
  obtain ⟨σ', e, v', f', o'⟩ := upto (N := k) (lp := fun m (σ' : st_T) j => m_X10_foretells_L6 m σ' (I_ k) (I_ j)) (k := fun σ' => some σ')
    (inv := fun j σ' => vM σ' = (if j = 0 then clS (vM σ) else nsS (envM σ) (gF_ σ 109 1 0) j (feM σ (clS (vM σ)))) ∧ fra nA nF σ σ' ∧ okM σ')
    (fun m σ' hi => by
      show m_X10_foretells_L6 (m + 1) _ _ _ = _
      rw [m_X10_foretells_L6, if_pos (by rw [i_le]; exact Int.le_refl _)])
    (fun j m σ' hj hi => by
      obtain ⟨hv, hf, ho⟩ := hi
      have en : gF_ σ' 109 1 0 = gF_ σ 109 1 0 := hf.2.1 109 1 0 (Or.inr (by decide))
      by_cases z : j = 0
      · subst z
        rw [if_pos rfl] at hv
        have n0 := nit 0 (by omega)
        obtain ⟨σ2, e2, v2, f2, o2⟩ := X10_pass1 ho (hw.fra hf) n0
        refine ⟨σ2, ?_, ?_, hf.tr f2, o2⟩
        · show m_X10_foretells_L6 (m + 1) _ _ _ = _
          rw [m_X10_foretells_L6, if_neg (fun z => absurd ((I_le (by omega) (by omega)).mp z) (by omega)), if_pos (show I_ 0 = 0 from rfl)]
          unfold m_X10_foretells_L27
          rw [en, e2, Option.bind_some, I_one]
        · rw [if_neg (by omega), v2, envM_fra hf, hf.wM, hv]; rfl
      · rw [if_neg z] at hv
        obtain ⟨σ2, e2, v2, f2, o2⟩ := X10_pass0 ho (nit j (by omega))
        refine ⟨σ2, ?_, ?_, hf.tr f2, o2⟩
        · show m_X10_foretells_L6 (m + 1) _ _ _ = _
          rw [m_X10_foretells_L6, if_neg (fun z => absurd ((I_le (by omega) (by omega)).mp z) (by omega)), if_neg (fun q => z ((eq_0 (by omega)).mp q))]
          unfold m_X10_foretells_L27
          rw [en, e2, Option.bind_some, I_one]
        · rw [if_neg (by omega), v2, envM_fra hf, hv]; rfl)
    0 fu_ σ0 (by omega) (fu_big (by omega)) ⟨by rw [if_pos rfl]; exact v0, f0, o0⟩
  have e : m_X10_foretells_L6 fu_ σ0 (I_ k) 0 = _ := e
  rw [if_neg (by omega)] at v'
  exact ⟨σ', e, v', f', o'⟩
