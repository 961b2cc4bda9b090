/-! ===== the component's night: herds, nights foretold ===== -/
set_option maxRecDepth 100000
theorem frP.W {i li : Nat} {σ σ' : st_T} (h : frP nW nCF nCP σ σ') : frP (nC i li) nCF nCP σ σ' := h.mono (by omega) (fun _ _ z => z) (fun _ _ z => z)
theorem X1_goes {σ : st_T} {i li : Nat} (h : okC σ i li) {k : Nat} (hk : k < eN (envC σ i)) {mo : Int32} (hm : 0 ≤ mo.toInt ∧ mo.toInt < 12) :
    ∃ σ' v, m_X1_goes σ i (hq σ k) mo = some (v, σ') ∧ (∀ T, vC σ' i li (T + v) = heS (envC σ i) (vC σ i li T) k mo) ∧ frP (nC i li) nCF nCP σ σ' ∧ okC σ' i li := by
  obtain ⟨q1, q2, q3, q4, q5⟩ := h.ho hk
  obtain ⟨f, d, e1, hf⟩ := X1_costs h q4
  unfold m_X1_goes
  have e1' : m_X3_from σ i (I_ (eHo (envC σ i) k)) (gF_ σ 87 3 (gP_ σ 1 31 0)) 0 = some (wy σ f d) := e1
  rw [if_pos q2, if_pos h.2.2.2.1.1, q3, e1', Option.bind_some]
  have f1 : frP nW nCF nCP σ (wy σ f d) := (frP.sA (by omega)).tr (frP.sA (by omega))
  have v1 : ∀ T, vC (wy σ f d) i li T = vC σ i li T := fun T => vC_fr f1
  have m1 : envC (wy σ f d) i = envC σ i := envC_fr (f1.W (i := i) (li := li))
  have o1 : okC (wy σ f d) i li := h.fr f1.W (by rw [v1]; exact h.2.1)
  have hway : ∀ t, t < 64 → ∃ y, PS (eOp (envC σ i)) (eW (envC σ i) (vC σ i li 0)) (eHo (envC σ i) k) t y := fun t ht => by
    obtain ⟨f, d, g, p, L, -, hP, -⟩ := X1_way h q4 ht
    exact ⟨(p, L), hP⟩
  have okh := okX_he (mo := mo) h.1 h.2.1 hk hway
  have et := X1_target o1 (by rw [m1]; exact hk) hm (D := dsS (envC σ i) (vC σ i li 0) (eHo (envC σ i) k)) (fun c hc => by rw [wy_61]; exact hf c hc)
  have et : m_X1_goes_L29 i (hq σ k) fu_ (wy σ f d) mo 0 (-1) 0 = _ := et
  rw [et, m1, v1]
  generalize hσ1 : wy σ f d = σ1 at f1 v1 m1 o1
  have hq1 : hq σ1 k = hq σ k := by rw [← hσ1]; rfl
  have hT : ∀ T, heS (envC σ i) (vC σ i li T) k mo = @ite _ ((tgS (envC σ i) (vC σ i li 0) (dsS (envC σ i) (vC σ i li 0) (eHo (envC σ i) k)) mo (eHu (envC σ i) k) 64).1 = 64) (Nat.decEq _ _) (vC σ i li T)
    (eatS (envC σ i) (trS (envC σ i) (pth (eOp (envC σ i)) (eW (envC σ i) (vC σ i li 0)) (eHo (envC σ i) k) (tgS (envC σ i) (vC σ i li 0) (dsS (envC σ i) (vC σ i li 0) (eHo (envC σ i) k)) mo (eHu (envC σ i) k) 64).1).1 ((pth (eOp (envC σ i)) (eW (envC σ i) (vC σ i li 0)) (eHo (envC σ i) k) (tgS (envC σ i) (vC σ i li 0) (dsS (envC σ i) (vC σ i li 0) (eHo (envC σ i) k)) mo (eHu (envC σ i) k) 64).1).2 - 2)
      (stN (vC σ i li T) (fnS (pth (eOp (envC σ i)) (eW (envC σ i) (vC σ i li 0)) (eHo (envC σ i) k) (tgS (envC σ i) (vC σ i li 0) (dsS (envC σ i) (vC σ i li 0) (eHo (envC σ i) k)) mo (eHu (envC σ i) k) 64).1).1 ((pth (eOp (envC σ i)) (eW (envC σ i) (vC σ i li 0)) (eHo (envC σ i) k) (tgS (envC σ i) (vC σ i li 0) (dsS (envC σ i) (vC σ i li 0) (eHo (envC σ i) k)) mo (eHu (envC σ i) k) 64).1).2 - 1) (sN (vC σ i li T)))))
      (tgS (envC σ i) (vC σ i li 0) (dsS (envC σ i) (vC σ i li 0) (eHo (envC σ i) k)) mo (eHu (envC σ i) k) 64).1 (eHu (envC σ i) k)) := fun T => by
    unfold heS
    have e1 : dsS (envC σ i) (vC σ i li T) (eHo (envC σ i) k) = dsS (envC σ i) (vC σ i li 0) (eHo (envC σ i) k) := rfl
    have e3 : eW (envC σ i) (vC σ i li T) = eW (envC σ i) (vC σ i li 0) := rfl
    rw [e1, e3, tgS_T (y := vC σ i li 0) rfl]
    rfl
  have okT : ∀ σ', (∀ T v, vC σ' i li (T + v) = heS (envC σ i) (vC σ i li T) k mo → okX (vC σ' i li 0)) := fun σ' T v e => by
    have e0 : okX (heS (envC σ i) (vC σ i li T) k mo) := okX_he (mo := mo) h.1 (x := vC σ i li T) h.2.1 hk hway
    rw [← e] at e0
    exact e0
  have hlt := tgS_lt (e := envC σ i) (x := vC σ i li 0) (D := dsS (envC σ i) (vC σ i li 0) (eHo (envC σ i) k)) (mo := mo) (hu := eHu (envC σ i) k) 64 (Nat.le_refl _)
  simp only [hT] at okT ⊢
  generalize (tgS (envC σ i) (vC σ i li 0) (dsS (envC σ i) (vC σ i li 0) (eHo (envC σ i) k)) mo (eHu (envC σ i) k) 64).1 = t at hlt okT ⊢
  unfold tgI goEnd
  by_cases z : t = 64
  · rw [if_pos z, if_pos rfl]
    refine ⟨σ1, 0, rfl, fun T => ?_, f1.W, o1⟩
    rw [if_pos z, Int32.add_zero, v1]
  · have ht : t < 64 := by omega
    rw [if_neg z, if_neg (I_neg (by omega))]
    have hr1 : gP_ σ1 1 31 0 = gP_ σ 1 31 0 := by rw [← hσ1]; rfl
    have hN1 : gN_ σ1 = gN_ σ := by rw [← hσ1]; rfl
    have hF1 : ∀ r q j, gF_ σ1 r q j = gF_ σ r q j := fun r q j => by rw [← hσ1]; rfl
    obtain ⟨fa, d2, g, p, L, e2, hP, hg⟩ := X1_way o1 q4 ht
    rw [m1, v1] at hP
    rw [m1] at e2
    have e2' : m_X3_goes σ1 i (I_ (eHo (envC σ i) k)) (I_ t) (gF_ σ 87 3 (gP_ σ 1 31 0)) = some (wl σ1 fa d2 g (I_ L)) := e2
    rw [hq1, hN1, if_pos q2, hr1, if_pos h.2.2.2.1.1, hF1, hF1, q3, e2', Option.bind_some]
    obtain ⟨hL64, hp, ha⟩ := PS_p hP
    obtain ⟨p1, p2⟩ := pth_eq hP
    have p1 : L = (pth (eOp (envC σ i)) (eW (envC σ i) (vC σ i li 0)) (eHo (envC σ i) k) t).2 := p1
    have p2 : ∀ j, j < L → p j = (pth (eOp (envC σ i)) (eW (envC σ i) (vC σ i li 0)) (eHo (envC σ i) k) t).1 j := p2
    generalize pth (eOp (envC σ i)) (eW (envC σ i) (vC σ i li 0)) (eHo (envC σ i) k) t = y at p1 p2 okT ⊢
    subst p1
    have f2 : frP nW nCF nCP σ1 (wl σ1 fa d2 g (I_ y.2)) := (((frP.sA (by omega)).tr (frP.sA (by omega))).tr (frP.sA (by omega))).tr (frP.sF (by omega))
    have o2 : okC (wl σ1 fa d2 g (I_ y.2)) i li := o1.fr f2.W (by rw [vC_fr f2]; exact o1.2.1)
    have m2 : envC (wl σ1 fa d2 g (I_ y.2)) i = envC σ i := (envC_fr (f2.W (i := i) (li := li))).trans m1
    obtain ⟨σ3, v3, e3, w3, f3⟩ := X1_run o2 (g := g) (p := p) (L := y.2) (t := t) (k := k) wl_g wl_v hL64 hg hp ha ht (by rw [m2]; exact hk) (by rw [m2]; exact (hlt.2 ht).1)
    have hq2 : hq (wl σ1 fa d2 g (I_ y.2)) k = hq σ k := hq1
    rw [hq2] at e3
    rw [e3]
    have w4 : ∀ T, vC σ3 i li (T + v3) = eatS (envC σ i) (trS (envC σ i) y.1 (y.2 - 2) (stN (vC σ i li T) (fnS y.1 (y.2 - 1) (sN (vC σ i li T))))) t (eHu (envC σ i) k) := fun T => by
      rw [w3 T, m2, vC_fr f2, v1]
      have c1 : fnS p (y.2 - 1) (sN (vC σ i li T)) = fnS y.1 (y.2 - 1) (sN (vC σ i li T)) := by
        by_cases hL : y.2 = 0
        · rw [hL]; rfl
        · exact fnS_congr _ (fun j hj => p2 j (by omega))
      rw [c1, trS_congr _ (fun j h1 hj => p2 j (by omega))]
    have f5 : frP (nC i li) nCF nCP σ σ3 := (f1.W.tr f2.W).tr f3
    refine ⟨σ3, v3, rfl, fun T => ?_, f5, h.fr f5 ?_⟩
    · rw [if_neg z]; exact w4 T
    · exact okT σ3 0 v3 (by rw [if_neg z]; exact w4 0)
/-- the herds come, one by one -/
theorem X1_comes {σ : st_T} {i li : Nat} (h : okC σ i li) {n : Int32} (hm : 0 ≤ n.toInt ∧ n.toInt < 1000000) :
    ∃ σ' v, m_X1_comes σ i n = some (v, σ') ∧ (∀ T, vC σ' i li (T + v) = hsS (envC σ i) (moS n) (eN (envC σ i)) (vC σ i li T)) ∧ frP (nC i li) nCF nCP σ σ' ∧ okC σ' i li := by
  unfold m_X1_comes
  have hN := h.nh
  obtain ⟨s', e, h1, h2, h3⟩ := upto (N := eN (envC σ i)) (S := st_T × Int32) (lp := fun m s k => m_X1_comes_L5 i m s.1 n s.2 (I_ k)) (k := fun s => some (s.2, s.1))
    (inv := fun k s => (∀ T, vC s.1 i li (T + s.2) = hsS (envC σ i) (moS n) k (vC σ i li T)) ∧ frP (nC i li) nCF nCP σ s.1 ∧ okC s.1 i li)
    (fun m s hh => by
      show m_X1_comes_L5 _ (m + 1) _ _ _ _ = _
      rw [m_X1_comes_L5, if_pos (by rw [hh.2.1.2.1 70 2 0 (by omega), hN.1, i_le]; exact Int.le_refl _)])
    (fun k m s hk hh => by
      obtain ⟨hv, hf, ho⟩ := hh
      show ∃ s', m_X1_comes_L5 _ (m + 1) _ _ _ _ = _ ∧ _
      have em : envC s.1 i = envC σ i := envC_fr hf
      have ek : (I_ k).toNatClampNeg = k := I_nat (by omega)
      have hh := ho.ho (k := k) (by rw [em]; exact hk)
      obtain ⟨σ2, v2, e2, w2, f2, o2⟩ := X1_goes ho (k := k) (by rw [em]; exact hk) (mo := moS n) (mo_ok hm)
      rw [m_X1_comes_L5, if_neg (fun z => by rw [hf.2.1 70 2 0 (by omega), hN.1] at z; exact absurd ((I_le (by omega) (by omega)).mp z) (by omega)), if_pos hh.1]
      simp only [ek]
      have e2' : m_X1_goes s.1 i (gP_ s.1 71 (2 + k) 0) (n / 30 - n / 30 / 12 * 12) = some (v2, σ2) := e2
      rw [if_pos hh.2.1, e2', bn2_def, I_one]
      refine ⟨(σ2, s.2 + v2), rfl, fun T => ?_, hf.tr f2, o2⟩
      show vC σ2 i li (T + (s.2 + v2)) = _
      rw [← Int32.add_assoc, w2, em, hv T]
      rfl)
    0 fu_ (σ, 0) (by omega) (fu_big (by omega)) ⟨fun T => by show vC σ i li (T + 0) = _; rw [Int32.add_zero]; rfl, frP.rf, h⟩
  have e : m_X1_comes_L5 i fu_ σ n 0 0 = _ := e
  rw [e]
  exact ⟨s'.1, s'.2, rfl, h1, h2, h3⟩
theorem X2_wears {σ : st_T} {i : Nat} {w : Int32} (hi : i < 3) : m_X2_wears σ i w = some (sA_ σ 55 i (fil 64 (fun c => gA_ σ 55 i c * w / 100) (gA_ σ 55 i))) := by
  unfold m_X2_wears
  obtain ⟨σ', e, h⟩ := upto (N := 64) (lp := fun n (σ' : st_T) c => m_X2_wears_L2 i n σ' w (I_ c)) (k := fun σ' => some σ')
    (inv := fun c σ' => σ' = sA_ σ 55 i (fil c (fun c => gA_ σ 55 i c * w / 100) (gA_ σ 55 i)))
    (fun n σ' _ => by show m_X2_wears_L2 _ (n + 1) _ _ _ = _; rw [m_X2_wears_L2, if_pos ((le_64 (by omega)).mpr (Nat.le_refl _))])
    (fun c n σ' hc hh => by
      refine ⟨_, ?_, rfl⟩
      show m_X2_wears_L2 _ (n + 1) _ _ _ = _
      have ec : (I_ c).toNatClampNeg = c := I_nat (by omega)
      rw [m_X2_wears_L2, if_neg (fun q => absurd ((le_64 (by omega)).mp q) (by omega)), if_pos hi, if_pos ((I_inb (by omega)).mpr hc), lt_def, ec, I_one, hh, sE_up, gA_same, fil_ge (Nat.le_refl _), fil_s (v := fun c => gA_ σ 55 i c * w / 100)])
    0 fu_ σ (by omega) (fu_big (by omega)) (by rw [fil_0, sA_id])
  have e : m_X2_wears_L2 i fu_ σ w 0 = _ := e
  rw [e, h]
/-- a night: herds come, fear wears -/
theorem X1_night1 {σ : st_T} {i li : Nat} (h : okC σ i li) {n : Int32} (hm : 0 ≤ n.toInt ∧ n.toInt < 1000000) :
    ∃ σ1 v σ2, m_X1_comes σ i n = some (v, σ1) ∧ gP_ σ1 1 31 0 < gN_ σ1 87 ∧ m_X2_wears σ1 i (gF_ σ1 87 5 (gP_ σ1 1 31 0)) = some σ2 ∧ (∀ T, vC σ2 i li (T + v) = niS (envC σ i) n (vC σ i li T)) ∧ frP (nC i li) nCF nCP σ σ2 ∧ okC σ2 i li ∧ frP (nC i li) nCF nCP σ σ1 ∧ frP (nC i li) nO nO σ1 σ2 := by
  obtain ⟨σ1, v, e1, w1, f1, o1⟩ := X1_comes h hm
  have em : envC σ1 i = envC σ i := envC_fr f1
  have eW9 : gF_ σ1 87 5 (gP_ σ1 1 31 0) = eWr (envC σ i) := by rw [← em]; rfl
  refine ⟨σ1, v, _, e1, o1.2.2.2.1.1, X2_wears h.2.2.1.2.1, ?_, f1.tr (frP.sA (by omega)), ?_, f1, frP.sA (by omega)⟩
  · intro T
    unfold niS
    rw [← w1 T, eW9]
    have c6 : cut 64 (fil 64 (fun c => gA_ σ1 55 i c * eWr (envC σ i) / 100) (gA_ σ1 55 i)) = wrS (eWr (envC σ i)) (sE (vC σ1 i li (T + v))) := by
      unfold wrS
      refine cut_ext fun j hj => ?_
      rw [fil_at hj]
      show _ = cut 64 (gA_ σ1 55 i) j * _ / 100
      rw [cut_at hj]
    rw [← c6]
    unfold vC
    rw [gA_same, gA_ne (by decide), gA_ne (by decide), fnC_of (σ := σ1) (σ' := sA_ σ1 55 i _) (gA_ne (by decide)) (gA_ne (by decide))]
  · refine o1.fr (frP.sA (by omega)) ?_
    refine ⟨fun c hc => ?_, fun c hc => ?_, fun c hc => ?_⟩
    · have := o1.2.1.1 c hc
      show 0 ≤ (cut 64 (gA_ (sA_ σ1 55 i _) 54 i) c).toInt ∧ (cut 64 (gA_ (sA_ σ1 55 i _) 54 i) c).toInt ≤ 1000
      rw [gA_ne (by decide)]
      exact this
    · have := wrS_ok h.1.2.2.1 o1.2.1.2.1 c hc
      show 0 ≤ (cut 64 (gA_ (sA_ σ1 55 i _) 55 i) c).toInt ∧ (cut 64 (gA_ (sA_ σ1 55 i _) 55 i) c).toInt ≤ 1000
      rw [gA_same, cut_at hc, fil_at hc, eW9]
      unfold wrS at this
      rw [cut_at hc, show sE (vC σ1 i li 0) c = gA_ σ1 55 i c from cut_at hc] at this
      exact this
    · have := o1.2.1.2.2 c hc
      show 0 ≤ (cut 128 (fnC (sA_ σ1 55 i _) i) c).toInt ∧ (cut 128 (fnC (sA_ σ1 55 i _) i) c).toInt ≤ 100
      rw [fnC_of (σ := σ1) (gA_ne (by decide)) (gA_ne (by decide))]
      exact this
