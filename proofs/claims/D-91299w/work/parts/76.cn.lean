/-! ===== the component's night: frame, what stands, fear, harm ===== -/
set_option maxRecDepth 100000
/-- what may have changed: arrays A, fields F, pointers P -/
def frP (A F P : Nat → Nat → Prop) (σ σ' : st_T) : Prop := (∀ r j, ¬ A r j → gA_ σ' r j = gA_ σ r j) ∧ (∀ r k j, ¬ F r k → gF_ σ' r k j = gF_ σ r k j) ∧ (∀ r k j, ¬ P r k → gP_ σ' r k j = gP_ σ r k j) ∧ gN_ σ' = gN_ σ ∧ gO_ σ' = gO_ σ
theorem frP.rf {A F P : Nat → Nat → Prop} {σ : st_T} : frP A F P σ σ := ⟨fun _ _ _ => rfl, fun _ _ _ _ => rfl, fun _ _ _ _ => rfl, rfl, rfl⟩
theorem frP.tr {A F P : Nat → Nat → Prop} {σ σ1 σ2 : st_T} (h : frP A F P σ σ1) (k : frP A F P σ1 σ2) : frP A F P σ σ2 :=
  ⟨fun r j hr => (k.1 r j hr).trans (h.1 r j hr), fun r q j hr => (k.2.1 r q j hr).trans (h.2.1 r q j hr), fun r q j hr => (k.2.2.1 r q j hr).trans (h.2.2.1 r q j hr), k.2.2.2.1.trans h.2.2.2.1, k.2.2.2.2.trans h.2.2.2.2⟩
theorem frP.mono {A F P A' F' P' : Nat → Nat → Prop} {σ σ' : st_T} (h : frP A F P σ σ') (hA : ∀ r j, A r j → A' r j) (hF : ∀ r j, F r j → F' r j) (hP : ∀ r j, P r j → P' r j) : frP A' F' P' σ σ' :=
  ⟨fun r j hr => h.1 r j (fun z => hr (hA r j z)), fun r k j hr => h.2.1 r k j (fun z => hr (hF r k z)), fun r k j hr => h.2.2.1 r k j (fun z => hr (hP r k z)), h.2.2.2⟩
theorem frP.sA {A F P : Nat → Nat → Prop} {σ : st_T} {r i : Nat} {f : ar_T} (h : A r i) : frP A F P σ (sA_ σ r i f) :=
  ⟨fun r' j hr => by rw [gA_sA, if_neg (fun z => hr (by rw [z.1, z.2]; exact h))], fun _ _ _ _ => rfl, fun _ _ _ _ => rfl, rfl, rfl⟩
theorem frP.sE {A F P : Nat → Nat → Prop} {σ : st_T} {r i j : Nat} {v : Int32} (h : A r i) : frP A F P σ (sE_ σ r i j v) := frP.sA h
theorem frP.sF {A F P : Nat → Nat → Prop} {σ : st_T} {r k i : Nat} {v : Int32} (h : F r k) : frP A F P σ (sF_ σ r k i v) :=
  ⟨fun _ _ _ => rfl, fun r' k' j hr => by
    by_cases z : r' = r
    · subst z; exact gF_nk (fun z2 => hr (z2 ▸ h))
    · exact gF_nr z, fun _ _ _ _ => rfl, rfl, rfl⟩
theorem frP.of {A F P : Nat → Nat → Prop} {B G : List Nat} {σ σ' : st_T} (h : fra B G σ σ') (hA : ∀ r j, r ∈ B → A r j) (hF : ∀ k, k ∈ G → F 109 k) : frP A F P σ σ' :=
  ⟨fun r j hr => h.1 r j (fun z => hr (hA r j z)), fun r k j hr => h.2.1 r k j (by
    by_cases z : r = 109
    · subst z; exact Or.inr (fun z2 => hr (hF k z2))
    · exact Or.inl z), fun r k j _ => by rw [h.2.2.1], h.2.2.2.1, h.2.2.2.2⟩
abbrev rq (σ : st_T) : Nat := gP_ σ 1 31 0
abbrev hq (σ : st_T) (h : Nat) : Nat := gP_ σ 71 (2 + h) 0
def lkC (σ : st_T) : Nat → Int32 → Int32 := fun c mo => if c < 4 then gA_ σ 89 (4 * rq σ + c) (imin mo (gA_ σ 90 (rq σ) c - 1)).toNatClampNeg else 0
def envC (σ : st_T) (i : Nat) : en_T := ((cut 64 (gA_ σ 51 i), cut 64 (gA_ σ 52 i), cut 64 (gA_ σ 53 i)), (gF_ σ 87 3 (rq σ), gF_ σ 87 4 (rq σ), gF_ σ 87 5 (rq σ)), lkC σ, (gF_ σ 70 2 0).toInt.toNat, (fun h => if h < (gF_ σ 70 2 0).toInt.toNat then (gF_ σ 80 0 (hq σ h)).toInt.toNat else 0), fun h => if h < (gF_ σ 70 2 0).toInt.toNat then gF_ σ 80 1 (hq σ h) else 0)
def vC (σ : st_T) (i li : Nat) (T : Int32) : sn_T := (cut 64 (gA_ σ 54 i), cut 64 (gA_ σ 55 i), cut 128 (fnC σ i), cut 10 (gA_ σ 32 li), T)
abbrev nC (i li : Nat) : Nat → Nat → Prop := fun r j => ((r = 54 ∨ r = 55 ∨ r = 56 ∨ r = 57) ∧ j = i) ∨ (r = 32 ∧ j = li) ∨ ((r = 61 ∨ r = 62 ∨ r = 63) ∧ j = 0)
abbrev nCF : Nat → Nat → Prop := fun r k => r = 60 ∧ k = 3
abbrev nCP : Nat → Nat → Prop := fun _ _ => False
abbrev nO : Nat → Nat → Prop := fun _ _ => False
abbrev nH (i li : Nat) : Nat → Nat → Prop := fun r j => (r = 54 ∧ j = i) ∨ (r = 32 ∧ j = li)
theorem frP.hC {i li : Nat} {σ σ' : st_T} (h : frP (nH i li) nO nO σ σ') : frP (nC i li) nCF nCP σ σ' := h.mono (by omega) (fun _ _ z => absurd z id) (fun _ _ z => z)
theorem envC_fr {σ σ' : st_T} {i i' li : Nat} (h : frP (nC i li) nCF nCP σ σ') : envC σ' i' = envC σ i' := by
  unfold envC lkC
  have hP : ∀ r k j, gP_ σ' r k j = gP_ σ r k j := fun r k j => h.2.2.1 r k j (fun z => z)
  have hF : ∀ r k j, r ≠ 60 → gF_ σ' r k j = gF_ σ r k j := fun r k j hr => h.2.1 r k j (by omega)
  have h89 : ∀ j, gA_ σ' 89 j = gA_ σ 89 j := fun j => h.1 89 j (by omega)
  have h90 : ∀ j, gA_ σ' 90 j = gA_ σ 90 j := fun j => h.1 90 j (by omega)
  simp only [rq, hq, hP, hF 87 _ _ (by decide), hF 70 _ _ (by decide), hF 80 _ _ (by decide), h.1 51 i' (by omega), h.1 52 i' (by omega), h.1 53 i' (by omega), h90, h89]
/-- the component's night may be walked on the land i with the losses li -/
def okC (σ : st_T) (i li : Nat) : Prop := okE (envC σ i) ∧ okX (vC σ i li 0) ∧ (lnd σ ∧ i < 3 ∧ li < 3 ∧ gP_ σ 1 22 0 = li) ∧ (rq σ < gN_ σ 87 ∧ rq σ < gN_ σ 88 ∧ rq σ < gN_ σ 90) ∧ (∀ c, c < 4 → 1 ≤ (gA_ σ 90 (rq σ) c).toInt ∧ (gA_ σ 90 (rq σ) c).toInt ≤ 12) ∧ 0 ≤ (gF_ σ 70 2 0).toInt ∧ ∀ h, h < (gF_ σ 70 2 0).toInt.toNat → alg_ σ 70 71 0 (I_ h) ∧ hq σ h < gN_ σ 80 ∧ 0 ≤ (gF_ σ 80 0 (hq σ h)).toInt
theorem okC.fr {σ σ' : st_T} {i li : Nat} (h : okC σ i li) (f : frP (nC i li) nCF nCP σ σ') (hx : okX (vC σ' i li 0)) : okC σ' i li := by
  obtain ⟨h1, h2, h3, h4, h5, h6, h7⟩ := h
  have hP : ∀ r k j, gP_ σ' r k j = gP_ σ r k j := fun r k j => f.2.2.1 r k j (fun z => z)
  have hF : ∀ r k j, r ≠ 60 → gF_ σ' r k j = gF_ σ r k j := fun r k j hr => f.2.1 r k j (by omega)
  have h90 : ∀ j, gA_ σ' 90 j = gA_ σ 90 j := fun j => f.1 90 j (by omega)
  refine ⟨by rw [envC_fr f]; exact h1, hx, ?_, ?_, ?_, ?_, ?_⟩
  · unfold lnd; rw [f.2.2.2.1, hP]; exact h3
  · simp only [rq, f.2.2.2.1, hP]; exact h4
  · simp only [rq, hP, h90]; exact h5
  · rw [hF 70 _ _ (by decide)]; exact h6
  · simp only [hq, hP, f.2.2.2.1, hF 70 _ _ (by decide), hF 80 _ _ (by decide), alg_]; exact h7
theorem okC.nh {σ : st_T} {i li : Nat} (h : okC σ i li) : gF_ σ 70 2 0 = I_ (eN (envC σ i)) ∧ eN (envC σ i) ≤ 4 := ⟨I_of h.2.2.2.2.2.1, h.1.2.2.2.2.2.1⟩
theorem okC.ho {σ : st_T} {i li : Nat} (h : okC σ i li) {k : Nat} (hk : k < eN (envC σ i)) : alg_ σ 70 71 0 (I_ k) ∧ hq σ k < gN_ σ 80 ∧ gF_ σ 80 0 (hq σ k) = I_ (eHo (envC σ i) k) ∧ eHo (envC σ i) k < 64 ∧ gF_ σ 80 1 (hq σ k) = eHu (envC σ i) k := by
  have h2 := h.1.2.2.2.2.2.2 k hk
  have e1 : eHo (envC σ i) k = (gF_ σ 80 0 (hq σ k)).toInt.toNat := if_pos hk
  have e2 : eHu (envC σ i) k = gF_ σ 80 1 (hq σ k) := if_pos hk
  have h4 := h.2.2.2.2.2.2 k hk
  exact ⟨h4.1, h4.2.1, by rw [e1]; exact I_of h4.2.2, h2.1, e2.symm⟩
theorem okC.sc {σ : st_T} {i li : Nat} (h : okC σ i li) : scC σ i (eSt (envC σ i)) := by
  have h2 := h.2.1.sc h.1
  refine ⟨h2.1, fun e he => ?_, fun c hc => ?_⟩
  · have := h2.2.1 e he
    rw [show sN (vC σ i li 0) e = fnC σ i e from cut_at he] at this
    exact this
  · have := h2.2.2 c hc
    rw [show sE (vC σ i li 0) c = gA_ σ 55 i c from cut_at hc] at this
    exact this
theorem okC.op {σ : st_T} {i n : Nat} (hn : n < 64) : opC σ i n ↔ eOp (envC σ i) n := by
  show gA_ σ 51 i n ≠ 1 ↔ cut 64 (gA_ σ 51 i) n ≠ 1
  rw [cut_at hn]
theorem okC.w {σ : st_T} {i li c n : Nat} {T : Int32} (hc : c < 64) (hn : n < 64) : wD σ i (eSt (envC σ i)) c n = eW (envC σ i) (vC σ i li T) c n := by
  have e1 : sN (vC σ i li T) (eix c n) = fnC σ i (eix c n) := cut_at (eix_lt2 hc hn)
  have e2 : sE (vC σ i li T) n = gA_ σ 55 i n := cut_at hn
  unfold wD eW wP wK
  rw [e1, e2]
theorem lim2_ {x : Int32} : imin x 1000 = imin x (1000 : Int32) := rfl
theorem X2_frightens {σ : st_T} {i c : Nat} {sc : Int32} (hi : i < 3) (hc : c < 64) : m_X2_frightens σ i (I_ c) sc = some (sA_ σ 55 i (frS sc (gA_ σ 55 i) c)) := by
  unfold m_X2_frightens
  have ec : (I_ c).toNatClampNeg = c := I_nat (by omega)
  rw [if_pos hi, if_pos ((I_inb (by omega)).mpr hc), lt_def, ec]
  obtain ⟨σ', e, h⟩ := upto (N := 4) (lp := fun n (σ' : st_T) w => m_X2_frightens_L22 i n σ' (I_ c) sc (I_ w)) (k := fun σ' => some σ')
    (inv := fun w σ' => σ' = sA_ σ 55 i (frW (sc / 2) c w (upd (gA_ σ 55 i) c (imin (gA_ σ 55 i c + sc) 1000))))
    (fun n σ' _ => by show m_X2_frightens_L22 i (n + 1) _ _ _ _ = _; rw [m_X2_frightens_L22, if_pos ((le_4 (by omega)).mpr (Nat.le_refl _))])
    (fun w n σ' hw hh => by
      refine ⟨_, ?_, rfl⟩
      show m_X2_frightens_L22 i (n + 1) _ _ _ _ = _
      rw [hh, m_X2_frightens_L22, if_neg (fun q => absurd ((le_4 (by omega)).mp q) (by omega)), X1_nb hc hw, Option.bind_some]
      unfold m_X2_frightens_L64
      rw [I_one, frW]
      by_cases h64 : nb c w = 64
      · rw [if_pos h64, if_pos rfl, if_pos h64]
      · have hn : nb c w < 64 := by have := nb_le c w hc hw; omega
        have ec : (I_ (nb c w)).toNatClampNeg = nb c w := I_nat (by omega)
        rw [if_neg h64, if_neg (I_neg (by omega)), if_pos hi, if_pos ((I_inb (by omega)).mpr hn), lt_def]
        simp only [ec]
        rw [gA_same, if_neg h64, sE_up])
    0 fu_ _ (by omega) (fu_big (by omega)) rfl
  have e : m_X2_frightens_L22 i fu_ (sE_ σ 55 i c (imin (gA_ σ 55 i c + sc) 1000)) (I_ c) sc 0 = _ := e
  rw [e, h]
  rfl
theorem fnC_of {σ σ' : st_T} {i : Nat} (h1 : gA_ σ' 56 i = gA_ σ 56 i) (h2 : gA_ σ' 57 i = gA_ σ 57 i) : fnC σ' i = fnC σ i := by unfold fnC; rw [h1, h2]
theorem X1_harms {σ : st_T} {i li : Nat} (h1 : okE (envC σ i)) (hi : i < 3) (hli : li < 3) (hl : gP_ σ 1 22 0 = li) {c : Nat} {much : Int32} (hc : c < 64) (hK : eK (envC σ i) c = 2) : ∃ σ' v, m_X1_harms σ i (I_ c) much = some (v, σ') ∧ (∀ T, vC σ' i li (T + v) = eatS (envC σ i) (vC σ i li T) c much) ∧ frP (nH i li) nO nO σ σ' := by
  have hF : eF (envC σ i) c = gA_ σ 52 i c := cut_at hc
  have hK2 : eK (envC σ i) c = gA_ σ 51 i c := cut_at hc
  have hf : 0 ≤ (gA_ σ 52 i c).toInt ∧ (gA_ σ 52 i c).toInt < 10 := by
    have := h1.2.2.2.1 c hc
    rw [hF] at this
    exact this
  obtain ⟨fm, hfm⟩ : ∃ fm : Nat, fm = (gA_ σ 52 i c).toInt.toNat := ⟨_, rfl⟩
  have hfI : gA_ σ 52 i c = I_ fm := by rw [hfm]; exact I_of hf.1
  have hfm10 : fm < 10 := by omega
  have ec : (I_ c).toNatClampNeg = c := I_nat (by omega)
  have ef : (I_ fm).toNatClampNeg = fm := I_nat (by omega)
  unfold m_X1_harms m_X2_loses
  rw [if_pos hi, if_pos ((I_inb (by omega)).mpr hc)]
  simp only [ec]
  rw [if_pos (hK2 ▸ hK), if_pos hi, if_pos ((I_inb (by omega)).mpr hc), lt_def, bn2_def]
  have hl' : ∀ v, gP_ (sE_ σ 54 i c v) 1 22 0 = li := fun v => hl
  rw [hl', if_pos hli, gAE_ne (by decide), hfI, if_pos ((I_inb (by omega)).mpr hfm10), lt_def, ef]
  refine ⟨_, _, rfl, fun T => ?_, ?_⟩
  · unfold vC eatS
    rw [fnC_of (σ := σ) (σ' := sE_ (sE_ σ 54 i c (gA_ σ 54 i c - imin (gA_ σ 54 i c) much)) 32 li fm _) (by rw [gAE_ne (by decide), gAE_ne (by decide)]) (by rw [gAE_ne (by decide), gAE_ne (by decide)]), gAE_ne (by decide), gAE_s, gAE_ne (by decide), gAE_ne (by decide), gAE_s, gAE_ne (by decide), cut_upd hc, cut_upd hfm10, hF, ← hfm]
    show _ = (upd (cut 64 (gA_ σ 54 i)) c (cut 64 (gA_ σ 54 i) c - imin (cut 64 (gA_ σ 54 i) c) much), cut 64 (gA_ σ 55 i), cut 128 (fnC σ i), upd (cut 10 (gA_ σ 32 li)) fm (cut 10 (gA_ σ 32 li) fm + imin (cut 64 (gA_ σ 54 i) c) much), T + imin (cut 64 (gA_ σ 54 i) c) much)
    rw [cut_at hc, cut_at hfm10]
  · exact (frP.sE (by omega)).tr (frP.sE (by omega))
theorem X1_harms0 {σ : st_T} {i c : Nat} {much : Int32} (hi : i < 3) (hc : c < 64) (hK : eK (envC σ i) c ≠ 2) : m_X1_harms σ i (I_ c) much = some (0, σ) := by
  have hK2 : eK (envC σ i) c = gA_ σ 51 i c := cut_at hc
  unfold m_X1_harms
  rw [if_pos hi, if_pos ((I_inb (by omega)).mpr hc), I_nat (by omega), if_neg (hK2 ▸ hK)]
