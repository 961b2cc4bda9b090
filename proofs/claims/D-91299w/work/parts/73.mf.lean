/-! ===== the model's night: all of it ===== -/
set_option maxRecDepth 100000
theorem okX_he {e : en_T} {x : sn_T} {h : Nat} {mo : Int32} (he : okE e) (hx : okX x) (hh : h < eN e) (hp : ∀ t, t < 64 → ∃ y, PS (eOp e) (eW e x) (eHo e h) t y) : okX (heS e x h mo) := by
  unfold heS
  by_cases z : (tgS e x (dsS e x (eHo e h)) mo (eHu e h) 64).1 = 64
  · rw [if_pos z]; exact hx
  · rw [if_neg z]
    have ht : (tgS e x (dsS e x (eHo e h)) mo (eHu e h) 64).1 < 64 := by have := (tgS_lt (e := e) (x := x) (D := dsS e x (eHo e h)) (mo := mo) (hu := eHu e h) 64 (Nat.le_refl _)).1; omega
    generalize (tgS e x (dsS e x (eHo e h)) mo (eHu e h) 64).1 = t at ht ⊢
    obtain ⟨y, hy⟩ := hp t ht
    have hq : PS (eOp e) (eW e x) (eHo e h) t (pth (eOp e) (eW e x) (eHo e h) t) := Classical.epsilon_spec_aux ⟨(fun _ => 0, 0)⟩ (PS (eOp e) (eW e x) (eHo e h) t) ⟨y, hy⟩
    generalize pth (eOp e) (eW e x) (eHo e h) t = q at hq ⊢
    obtain ⟨p, L⟩ := q
    obtain ⟨h1, h2, h3⟩ := PS_p hq
    have hhu := he.2.2.2.2.2.2 h hh
    refine okX.eat ?_ (by omega) ht
    have hb : okX (sS x, sE x, fnS p (L - 1) (sN x), sL x, sT x) := ⟨hx.1, hx.2.1, fnS_ok hx.2.2 (L - 1)⟩
    by_cases hL : L - 2 = 0
    · show okX (trS e p (L - 2) _)
      rw [hL]
      exact hb
    · exact okX.tr hb (L - 2) (fun j hj => h2 j (by omega))
/-- ways are there (the model shows it) -/
theorem X10_way {σ : st_T} (h : okM σ) {a t : Nat} (ha : a < 64) (ht : t < 64) : ∃ f g p L, m_X10_findPath σ (I_ a) (I_ t) = some (mp σ f g (I_ L)) ∧ PS (eOp (envM σ)) (eW (envM σ) (vM σ)) a t (p, L) ∧ ∀ j, j < L → g j = I_ (p j) := by
  obtain ⟨f, g, p, L, e, hP, hg, -⟩ := X10_findPath h.sc ha ht
  exact ⟨f, g, p, L, e, PS_congr ht okM.op okM.w hP, hg⟩
/-- one herd -/
theorem X10_herd {σ : st_T} (h : okM σ) {k : Nat} (hk : k < eN (envM σ)) {n : Int32} (hm : 0 ≤ n.toInt ∧ n.toInt < 1000000) (kk : st_T → Int32 → Int32 → Option st_T) (K58 : st_T → Option st_T) (h58 : ∀ σ', K58 σ' = kk σ' n (I_ k)) :
    ∃ σ', ((m_X10_findCosts σ (gA_ σ 150 0 k)).bind fun σ29 => (m_X10_targetOf σ29 (I_ k) (moS n)).bind fun v32 => if v32 = (-1 : Int32) then K58 σ29 else (m_X10_findPath σ29 (gA_ σ29 150 0 k) v32).bind fun σ36 => (m_X10_passes_L114 kk fu_) σ36 n (I_ k) v32 (1 : Int32)) = kk σ' n (I_ k) ∧ vM σ' = heS (envM σ) (vM σ) k (moS n) ∧ fra nA nF σ σ' ∧ okM σ' := by
  obtain ⟨h1, h2, h3⟩ := h.ho hk
  obtain ⟨f, e1, hf⟩ := X10_costs h h2
  rw [h1, e1, Option.bind_some]
  have f1 : fra [156, 157, 158] [49] σ (sA_ σ 156 0 f) := fra.sA (by decide)
  have f1' : fra nA nF σ (sA_ σ 156 0 f) := f1.mono (by decide) (by decide)
  have v1 : vM (sA_ σ 156 0 f) = vM σ := vM_fra f1
  have m1 : envM (sA_ σ 156 0 f) = envM σ := envM_fra f1'
  have o1 : okM (sA_ σ 156 0 f) := h.fra f1' (by rw [v1]; exact h.2.1)
  have hway : ∀ t, t < 64 → ∃ y, PS (eOp (envM σ)) (eW (envM σ) (vM σ)) (eHo (envM σ) k) t y := fun t ht => by
    obtain ⟨f, g, p, L, -, hP, -⟩ := X10_way h h2 ht
    exact ⟨(p, L), hP⟩
  have okh := okX_he (mo := moS n) h.1 h.2.1 hk hway
  rw [X10_target o1 (by rw [m1]; exact hk) (mo_ok hm) (D := dsS (envM σ) (vM σ) (eHo (envM σ) k)) (fun c hc => by rw [gA_same]; exact hf c hc), Option.bind_some, m1, v1]
  unfold heS at okh ⊢
  by_cases z : (tgS (envM σ) (vM σ) (dsS (envM σ) (vM σ) (eHo (envM σ) k)) (moS n) (eHu (envM σ) k) 64).1 = 64
  · rw [if_pos z]
    unfold tgI
    rw [if_pos z, if_pos rfl, h58]
    exact ⟨_, rfl, v1, f1', o1⟩
  · rw [if_neg z] at okh ⊢
    have ht : (tgS (envM σ) (vM σ) (dsS (envM σ) (vM σ) (eHo (envM σ) k)) (moS n) (eHu (envM σ) k) 64).1 < 64 := by have := (tgS_lt (e := envM σ) (x := vM σ) (D := dsS (envM σ) (vM σ) (eHo (envM σ) k)) (mo := moS n) (hu := eHu (envM σ) k) 64 (Nat.le_refl _)).1; omega
    unfold tgI
    rw [if_neg z]
    generalize (tgS (envM σ) (vM σ) (dsS (envM σ) (vM σ) (eHo (envM σ) k)) (moS n) (eHu (envM σ) k) 64).1 = t at ht okh ⊢
    rw [if_neg (I_neg (by omega)), gA_ne (by decide), h1]
    obtain ⟨f2, g, p, L, e2, hP, hg⟩ := X10_way o1 h2 ht
    rw [m1, v1] at hP
    rw [e2, Option.bind_some]
    obtain ⟨hL64, hp, ha⟩ := PS_p hP
    obtain ⟨q1, q2⟩ := pth_eq hP
    have q1 : L = (pth (eOp (envM σ)) (eW (envM σ) (vM σ)) (eHo (envM σ) k) t).2 := q1
    have q2 : ∀ j, j < L → p j = (pth (eOp (envM σ)) (eW (envM σ) (vM σ)) (eHo (envM σ) k) t).1 j := q2
    generalize pth (eOp (envM σ)) (eW (envM σ) (vM σ)) (eHo (envM σ) k) t = y at q1 q2 okh ⊢
    subst q1
    rw [X10_fall kk n (I_ k) (I_ t) mp_g mp_v hL64 hg hp ha]
    have f2 : fra nA nF (sA_ σ 156 0 f) (mp (sA_ σ 156 0 f) f2 g (I_ y.2)) := ((fra.sA (by decide)).tr (fra.sA (by decide))).tr (fra.sF (by decide))
    generalize hσ2 : mp (sA_ σ 156 0 f) _ g (I_ y.2) = σ2 at f2 ⊢
    have e154 : gA_ σ2 154 0 = gA_ σ 154 0 := by rw [← hσ2, mp_o (by decide) (by decide), gA_ne (by decide)]
    rw [e154]
    have f3 : fra nA nF σ2 (sA_ σ2 154 0 (fnS p (y.2 - 1) (gA_ σ 154 0))) := fra.sA (by decide)
    have v3 : vM (sA_ σ2 154 0 (fnS p (y.2 - 1) (gA_ σ 154 0))) = (sS (vM σ), sE (vM σ), fnS y.1 (y.2 - 1) (sN (vM σ)), sL (vM σ), sT (vM σ)) := by
      have w2 : vM σ2 = vM σ := by
        rw [← v1, ← hσ2]
        exact vM_fra (((fra.sA (by decide)).tr (fra.sA (by decide))).tr (fra.sF (by decide)))
      have c4 : cut 128 (fnS p (y.2 - 1) (gA_ σ 154 0)) = fnS y.1 (y.2 - 1) (sN (vM σ)) := by
        by_cases hL : y.2 = 0
        · rw [hL]; rfl
        · rw [fnS_cut _ (fun j hj => hp j (by omega)), fnS_congr (p' := y.1) _ (fun j hj => q2 j (by omega))]; rfl
      rw [← c4, ← w2]
      unfold vM
      rw [gA_same, gA_ne (by decide), gA_ne (by decide), gA_ne (by decide)]
      rfl
    have e3 : envM (sA_ σ2 154 0 (fnS p (y.2 - 1) (gA_ σ 154 0))) = envM σ := by rw [envM_fra ((f1'.tr f2).tr f3)]
    have x3 : okX (vM (sA_ σ2 154 0 (fnS p (y.2 - 1) (gA_ σ 154 0)))) := by
      rw [v3]; exact ⟨h.2.1.1, h.2.1.2.1, fnS_ok h.2.1.2.2 (y.2 - 1)⟩
    have o3 := h.fra ((f1'.tr f2).tr f3) x3
    obtain ⟨σ4, e4, v4, f4⟩ := X10_trample o3 (g := g) (p := p) (L := y.2) (t := t) (h := k) kk n (by rw [gA_ne (by decide), ← hσ2, mp_g]) (by rw [gF_sA, ← hσ2, mp_v]) hL64 hg hp ht (by rw [e3]; exact hk)
    rw [e4]
    have v5 : vM σ4 = eatS (envM σ) (trS (envM σ) y.1 (y.2 - 2) (sS (vM σ), sE (vM σ), fnS y.1 (y.2 - 1) (sN (vM σ)), sL (vM σ), sT (vM σ))) t (eHu (envM σ) k) := by
      rw [v4, e3, v3]
      congr 1
      exact trS_congr _ (fun j h1 hj => q2 j (by omega))
    have f5 : fra nA nF σ σ4 := ((f1'.tr f2).tr f3).tr (f4.mono (by decide) (by decide))
    exact ⟨σ4, rfl, v5, f5, h.fra f5 (by rw [v5]; exact okh)⟩
theorem X10_wears {σ : st_T} : m_X10_passes_L222 fu_ σ 0 = some (sA_ σ 155 0 (fil 64 (fun c => gA_ σ 155 0 c * gF_ σ 109 25 0 / 100) (gA_ σ 155 0))) := by
  obtain ⟨σ', e, h⟩ := upto (N := 64) (lp := fun n (σ' : st_T) c => m_X10_passes_L222 n σ' (I_ c)) (k := fun σ' => some σ')
    (inv := fun c σ' => σ' = sA_ σ 155 0 (fil c (fun c => gA_ σ 155 0 c * gF_ σ 109 25 0 / 100) (gA_ σ 155 0)))
    (fun n σ' _ => by show m_X10_passes_L222 (n + 1) _ _ = _; rw [m_X10_passes_L222, if_pos ((le_64 (by omega)).mpr (Nat.le_refl _))])
    (fun c n σ' hc hi => by
      refine ⟨_, ?_, rfl⟩
      show m_X10_passes_L222 (n + 1) _ _ = _
      have ec : (I_ c).toNatClampNeg = c := I_nat (by omega)
      rw [m_X10_passes_L222, if_neg (fun q => absurd ((le_64 (by omega)).mp q) (by omega)), if_pos ((I_inb (by omega)).mpr hc), lt_def, ec, I_one, hi, sE_up, gA_same, gF_sA, fil_ge (Nat.le_refl _), fil_s (v := fun c => gA_ σ 155 0 c * gF_ σ 109 25 0 / 100)])
    0 fu_ σ (by omega) (fu_big (by omega)) (by rw [fil_0, sA_id])
  have e : m_X10_passes_L222 fu_ σ 0 = _ := e
  rw [e, h]
theorem X10_night {σ : st_T} (h : okM σ) {n : Int32} (hm : 0 ≤ n.toInt ∧ n.toInt < 1000000) : ∃ σ', m_X10_passes_L56 σ n = some σ' ∧ vM σ' = niS (envM σ) n (vM σ) ∧ fra nA nF σ σ' ∧ okM σ' := by
  unfold m_X10_passes_L56
  have hN := h.nh
  obtain ⟨σ', e, v', f', o'⟩ := upto (N := eN (envM σ)) (lp := fun m (σ' : st_T) k => m_X10_passes_L58 m σ' n (I_ k)) (k := fun σ' => m_X10_passes_L222 fu_ σ' 0)
    (inv := fun k σ' => vM σ' = hsS (envM σ) (moS n) k (vM σ) ∧ fra nA nF σ σ' ∧ okM σ')
    (fun m σ' hi => by
      show m_X10_passes_L58 (m + 1) _ _ _ = _
      rw [m_X10_passes_L58, hi.2.1.2.1 109 39 0 (Or.inr (by decide)), hN.1, if_pos (by rw [i_le]; exact Int.le_refl _)])
    (fun k m σ' hk hi => by
      obtain ⟨hv, hf, ho⟩ := hi
      have em := envM_fra hf
      have ek : (I_ k).toNatClampNeg = k := I_nat (by omega)
      obtain ⟨σ2, e2, v2, f2, o2⟩ := X10_herd ho (k := k) (by rw [em]; exact hk) hm (m_X10_passes_L214 (m_X10_passes_L58 m)) (fun σ' => m_X10_passes_L214 (m_X10_passes_L58 m) σ' n (I_ k)) (fun _ => rfl)
      refine ⟨σ2, ?_, by rw [v2, em, hv]; rfl, hf.tr f2, o2⟩
      show m_X10_passes_L58 (m + 1) _ _ _ = _
      rw [m_X10_passes_L58, hf.2.1 109 39 0 (Or.inr (by decide)), hN.1, if_neg (fun z => absurd ((I_le (by omega) (by omega)).mp z) (by omega)), if_pos ((I_inb (by omega)).mpr (by omega)), ek]
      have e2' := e2
      rw [e2']
      unfold m_X10_passes_L214
      rw [I_one])
    0 fu_ σ (by omega) (fu_big (by omega)) ⟨rfl, fra.rf, h⟩
  have e : m_X10_passes_L58 fu_ σ n 0 = _ := e
  have em := envM_fra f'
  have eW9 : gF_ σ' 109 25 0 = eWr (envM σ) := by rw [← em]; rfl
  have v6 : vM (sA_ σ' 155 0 (fil 64 (fun c => gA_ σ' 155 0 c * gF_ σ' 109 25 0 / 100) (gA_ σ' 155 0))) = niS (envM σ) n (vM σ) := by
    unfold niS
    rw [← v']
    have c6 : cut 64 (fil 64 (fun c => gA_ σ' 155 0 c * gF_ σ' 109 25 0 / 100) (gA_ σ' 155 0)) = wrS (eWr (envM σ)) (sE (vM σ')) := by
      unfold wrS
      refine cut_ext fun j hj => ?_
      rw [fil_at hj, eW9]
      show _ = cut 64 (gA_ σ' 155 0) j * _ / 100
      rw [cut_at hj]
    rw [← c6]
    unfold vM
    rw [gA_same, gA_ne (by decide), gA_ne (by decide), gA_ne (by decide)]
    rfl
  have f6 : fra nA nF σ (sA_ σ' 155 0 (fil 64 (fun c => gA_ σ' 155 0 c * gF_ σ' 109 25 0 / 100) (gA_ σ' 155 0))) := f'.tr (fra.sA (by decide))
  rw [e, X10_wears]
  refine ⟨_, rfl, v6, f6, h.fra f6 ?_⟩
  rw [v6]
  unfold niS
  rw [← v']
  exact ⟨o'.2.1.1, wrS_ok h.1.2.2.1 o'.2.1.2.1, o'.2.1.2.2⟩
