/-! ===== the model: the scene is set ===== -/
set_option maxRecDepth 100000
def sc0M (σ : st_T) : sn_T := (cut 64 (fun c => if gA_ σ 112 0 c = 2 then gA_ σ 115 0 c else 0), cut 64 (gA_ σ 116 0), cut 128 (gA_ σ 117 0), (fun _ => 0), 0)
theorem X10_setScene {σ : st_T} : ∃ σ', m_X10_setScene σ = some σ' ∧ clS (vM σ') = sc0M σ ∧ fra nA nF σ σ' ∧ (∀ c, c < 64 → gA_ σ' 153 0 c = if gA_ σ 112 0 c = 2 then gA_ σ 115 0 c else 0) ∧ (∀ c, c < 64 → gA_ σ' 155 0 c = gA_ σ 116 0 c) ∧ (∀ c, c < 128 → gA_ σ' 154 0 c = gA_ σ 117 0 c) := by
  unfold m_X10_setScene
  obtain ⟨σ1, e1, h1⟩ := upto (N := 64) (lp := fun n (σ' : st_T) c => m_X10_setScene_L2 n σ' (I_ c)) (k := fun σ' => m_X10_setScene_L54 fu_ σ' 0)
    (inv := fun c σ' => σ' = sA_ (sA_ σ 153 0 (fil c (fun c => if gA_ σ 112 0 c = 2 then gA_ σ 115 0 c else 0) (gA_ σ 153 0))) 155 0 (fil c (gA_ σ 116 0) (gA_ σ 155 0)))
    (fun n σ' _ => by show m_X10_setScene_L2 (n + 1) _ _ = _; rw [m_X10_setScene_L2, if_pos ((le_64 (by omega)).mpr (Nat.le_refl _))])
    (fun c n σ' hc hi => by
      refine ⟨_, ?_, rfl⟩
      show m_X10_setScene_L2 (n + 1) _ _ = _
      have ec : (I_ c).toNatClampNeg = c := I_nat (by omega)
      have key : ∀ t2, t2 = (if gA_ σ 112 0 c = 2 then gA_ σ 115 0 c else 0) → m_X10_setScene_L33 (m_X10_setScene_L2 n) σ' (I_ c) (I_ c) t2 = m_X10_setScene_L2 n (sA_ (sA_ σ 153 0 (fil (c + 1) (fun c => if gA_ σ 112 0 c = 2 then gA_ σ 115 0 c else 0) (gA_ σ 153 0))) 155 0 (fil (c + 1) (gA_ σ 116 0) (gA_ σ 155 0))) (I_ (c + 1)) := fun t2 ht => by
        unfold m_X10_setScene_L33
        rw [if_pos ((I_inb (by omega)).mpr hc), lt_def, if_pos ((I_inb (by omega)).mpr hc), lt_def, ec, I_one, gAE_ne (by decide), hi, gA_ne (by decide), gA_ne (by decide), ht]
        rw [sA_cm (by decide), sE_up, fil_s (v := fun c => if gA_ σ 112 0 c = 2 then gA_ σ 115 0 c else 0), sA_cm (by decide), sE_up, fil_s (v := gA_ σ 116 0)]
      rw [m_X10_setScene_L2, if_neg (fun q => absurd ((le_64 (by omega)).mp q) (by omega)), if_pos ((I_inb (by omega)).mpr hc), ec]
      have a1 : gA_ σ' 112 0 = gA_ σ 112 0 := by rw [hi, gA_ne (by decide), gA_ne (by decide)]
      have a2 : gA_ σ' 115 0 = gA_ σ 115 0 := by rw [hi, gA_ne (by decide), gA_ne (by decide)]
      rw [a1, a2]
      by_cases z : gA_ σ 112 0 c = 2
      · rw [if_pos z]; exact key _ (by rw [if_pos z])
      · rw [if_neg z]; exact key _ (by rw [if_neg z]))
    0 fu_ σ (by omega) (fu_big (by omega)) (by rw [fil_0, fil_0, sA_id]; exact (sA_id).symm)
  have e1 : m_X10_setScene_L2 fu_ σ 0 = _ := e1
  rw [e1]
  obtain ⟨σ2, e2, h2⟩ := upto (N := 128) (lp := fun n (σ' : st_T) c => m_X10_setScene_L54 n σ' (I_ c)) (k := fun σ' => some σ')
    (inv := fun c σ' => σ' = sA_ σ1 154 0 (fil c (gA_ σ1 117 0) (gA_ σ1 154 0)))
    (fun n σ' _ => by show m_X10_setScene_L54 (n + 1) _ _ = _; rw [m_X10_setScene_L54, if_pos ((le_128 (by omega)).mpr (Nat.le_refl _))])
    (fun c n σ' hc hi => by
      refine ⟨_, ?_, rfl⟩
      show m_X10_setScene_L54 (n + 1) _ _ = _
      have ec : (I_ c).toNatClampNeg = c := I_nat (by omega)
      rw [m_X10_setScene_L54, if_neg (fun q => absurd ((le_128 (by omega)).mp q) (by omega)), if_pos ((I_inb (by omega)).mpr hc), lt_def, ec, I_one, hi, gA_ne (by decide), sE_up, fil_s (v := gA_ σ1 117 0)])
    0 fu_ σ1 (by omega) (fu_big (by omega)) (by rw [fil_0, sA_id])
  have e2 : m_X10_setScene_L54 fu_ σ1 0 = _ := e2
  rw [e2]
  have f1 : fra nA nF σ σ1 := by rw [h1]; exact (fra.sA (by decide)).tr (fra.sA (by decide))
  have f2 : fra nA nF σ σ2 := by rw [h2]; exact f1.tr (fra.sA (by decide))
  have b1 : ∀ c, c < 64 → gA_ σ2 153 0 c = if gA_ σ 112 0 c = 2 then gA_ σ 115 0 c else 0 := fun c hc => by
    rw [h2, gA_ne (by decide), h1, gA_ne (by decide), gA_same, fil_at hc]
  have b2 : ∀ c, c < 64 → gA_ σ2 155 0 c = gA_ σ 116 0 c := fun c hc => by
    rw [h2, gA_ne (by decide), h1, gA_same, fil_at hc]
  have b3 : ∀ c, c < 128 → gA_ σ2 154 0 c = gA_ σ 117 0 c := fun c hc => by
    rw [h2, gA_same, fil_at hc, f1.1 117 0 (by decide)]
  refine ⟨σ2, rfl, ?_, f2, b1, b2, b3⟩
  unfold clS vM sc0M
  show (cut 64 (gA_ σ2 153 0), cut 64 (gA_ σ2 155 0), cut 128 (gA_ σ2 154 0), _, _) = _
  rw [cut_ext b1, cut_ext b2, cut_ext b3]
def lostS (v : ar_T) (L : ar_T) (w : Int32) : Nat → Int32
  | 0 => 0
  | f + 1 => lostS v L w f + (if v f = w then L f else 0)
theorem X10_lostOf {σ : st_T} {w : Int32} : m_X10_lostOf σ w = some (lostS (gA_ σ 119 0) (gA_ σ 166 0) w 10) := by
  unfold m_X10_lostOf
  obtain ⟨s, e, h⟩ := upto (N := 10) (lp := fun n (s : Int32) c => m_X10_lostOf_L4 n σ w s (I_ c)) (k := fun s => some s)
    (inv := fun c s => s = lostS (gA_ σ 119 0) (gA_ σ 166 0) w c)
    (fun n s _ => by show m_X10_lostOf_L4 (n + 1) _ _ _ _ = _; rw [m_X10_lostOf_L4, if_pos ((le_10 (by omega)).mpr (Nat.le_refl _))])
    (fun c n s hc hi => by
      refine ⟨_, ?_, rfl⟩
      show m_X10_lostOf_L4 (n + 1) _ _ _ _ = _
      have ec : (I_ c).toNatClampNeg = c := I_nat (by omega)
      rw [m_X10_lostOf_L4, if_neg (fun q => absurd ((le_10 (by omega)).mp q) (by omega)), if_pos ((I_inb (by omega)).mpr hc), ec]
      unfold m_X10_lostOf_L31
      rw [I_one, hi, lostS]
      by_cases z : gA_ σ 119 0 c = w
      · rw [if_pos z, if_pos z]
      · rw [if_neg z, if_neg z])
    0 fu_ 0 (by omega) (fu_big (by omega)) rfl
  have e : m_X10_lostOf_L4 fu_ σ w 0 0 = _ := e
  rw [e, h]
