/-! ===== the model's night: targets, herds, nights ===== -/
set_option maxRecDepth 100000
theorem vM_fra {σ σ' : st_T} (h : fra [156, 157, 158] [49] σ σ') : vM σ' = vM σ := by
  unfold vM
  rw [h.1 153 0 (by decide), h.1 155 0 (by decide), h.1 154 0 (by decide), h.1 166 0 (by decide), h.2.1 109 52 0 (Or.inr (by decide))]
theorem okM.fra {σ σ' : st_T} (h : okM σ) (k : fra nA nF σ σ') (hx : okX (vM σ')) : okM σ' := by
  refine ⟨by rw [envM_fra k]; exact h.1, hx, fun j hj => ?_, ?_, fun j hj => ?_⟩
  · rw [k.1 138 0 (by decide)]; exact h.2.2.1 j hj
  · rw [k.2.1 109 39 0 (Or.inr (by decide))]; exact h.2.2.2.1
  · rw [k.1 150 0 (by decide)]; exact h.2.2.2.2 j hj
def tgI (t : Nat) : Int32 := if t = 64 then -1 else I_ t
theorem tgS_lt {e : en_T} {x : sn_T} {D : ar_T} {mo hu : Int32} : ∀ n, n ≤ 64 → (tgS e x D mo hu n).1 ≤ 64 ∧ ((tgS e x D mo hu n).1 < 64 → eK e (tgS e x D mo hu n).1 = 2 ∧ D (tgS e x D mo hu n).1 ≠ 1000000000) := by
  intro n
  induction n with
  | zero => intro _; exact ⟨by rw [tgS]; omega, fun h => by rw [tgS] at h; omega⟩
  | succ n ih =>
    intro hn
    rw [tgS]
    by_cases z : eK e n = 2 ∧ 0 < sS x n ∧ D n ≠ 1000000000 ∧ (tgS e x D mo hu n).2 < eLk e (eC e n).toInt.toNat mo * imin (sS x n) hu - D n
    · rw [if_pos z]; exact ⟨by show n ≤ 64; omega, fun _ => ⟨z.1, z.2.2.1⟩⟩
    · rw [if_neg z]; exact ih (by omega)
theorem X10_target {σ : st_T} (h : okM σ) {k : Nat} (hk : k < eN (envM σ)) {mo : Int32} (hm : 0 ≤ mo.toInt ∧ mo.toInt < 12) {D : ar_T} (hD : ∀ c, c < 64 → gA_ σ 156 0 c = D c) : m_X10_targetOf σ (I_ k) mo = some (tgI (tgS (envM σ) (vM σ) D mo (eHu (envM σ) k) 64).1) := by
  unfold m_X10_targetOf
  have hk4 : k < 4 := by have := h.nh.2; omega
  obtain ⟨v, e, hv⟩ := upto (N := 64) (S := Int32 × Int32) (lp := fun n v c => m_X10_targetOf_L8 n σ (I_ k) mo v.1 v.2 (I_ c)) (k := fun v => some v.1)
    (inv := fun c v => v = (tgI (tgS (envM σ) (vM σ) D mo (eHu (envM σ) k) c).1, (tgS (envM σ) (vM σ) D mo (eHu (envM σ) k) c).2))
    (fun n v _ => by show m_X10_targetOf_L8 (n + 1) _ _ _ _ _ _ = _; rw [m_X10_targetOf_L8, if_pos ((le_64 (by omega)).mpr (Nat.le_refl _))])
    (fun c n v hc hi => by
      show ∃ v', m_X10_targetOf_L8 (n + 1) _ _ _ _ _ _ = _ ∧ _
      have ec : (I_ c).toNatClampNeg = c := I_nat (by omega)
      have ek : (I_ k).toNatClampNeg = k := I_nat (by omega)
      have eKc : eK (envM σ) c = gA_ σ 112 0 c := cut_at hc
      have eSc : sS (vM σ) c = gA_ σ 153 0 c := cut_at hc
      have eCc : eC (envM σ) c = gA_ σ 114 0 c := cut_at hc
      have hCc := h.1.2.2.2.2.1 c hc
      have hSc := h.2.1.1 c hc
      rw [eCc] at hCc
      rw [eSc] at hSc
      rw [m_X10_targetOf_L8, if_neg (fun q => absurd ((le_64 (by omega)).mp q) (by omega)), if_pos ((I_inb (by omega)).mpr hc)]
      unfold m_X10_targetOf_L96 m_X10_targetOf_L124
      rw [I_one]
      simp only [ec, ek]
      rw [tgS, eKc, eSc, eCc, hD c hc]
      have skip : ¬ (gA_ σ 112 0 c = 2 ∧ 0 < gA_ σ 153 0 c ∧ D c ≠ 1000000000 ∧ (tgS (envM σ) (vM σ) D mo (eHu (envM σ) k) c).2 < eLk (envM σ) (gA_ σ 114 0 c).toInt.toNat mo * imin (gA_ σ 153 0 c) (eHu (envM σ) k) - D c) → ∃ v', m_X10_targetOf_L8 n σ (I_ k) mo v.1 v.2 (I_ (c + 1)) = m_X10_targetOf_L8 n σ (I_ k) mo v'.1 v'.2 (I_ (c + 1)) ∧ v' = (tgI (if gA_ σ 112 0 c = 2 ∧ 0 < gA_ σ 153 0 c ∧ D c ≠ 1000000000 ∧ (tgS (envM σ) (vM σ) D mo (eHu (envM σ) k) c).2 < eLk (envM σ) (gA_ σ 114 0 c).toInt.toNat mo * imin (gA_ σ 153 0 c) (eHu (envM σ) k) - D c then (c, eLk (envM σ) (gA_ σ 114 0 c).toInt.toNat mo * imin (gA_ σ 153 0 c) (eHu (envM σ) k) - D c) else tgS (envM σ) (vM σ) D mo (eHu (envM σ) k) c).1, (if gA_ σ 112 0 c = 2 ∧ 0 < gA_ σ 153 0 c ∧ D c ≠ 1000000000 ∧ (tgS (envM σ) (vM σ) D mo (eHu (envM σ) k) c).2 < eLk (envM σ) (gA_ σ 114 0 c).toInt.toNat mo * imin (gA_ σ 153 0 c) (eHu (envM σ) k) - D c then (c, eLk (envM σ) (gA_ σ 114 0 c).toInt.toNat mo * imin (gA_ σ 153 0 c) (eHu (envM σ) k) - D c) else tgS (envM σ) (vM σ) D mo (eHu (envM σ) k) c).2) := fun z => ⟨v, rfl, by rw [if_neg z]; exact hi⟩
      by_cases h1 : gA_ σ 112 0 c = 2
      · rw [if_pos h1]
        by_cases h2 : gA_ σ 153 0 c = 0
        · rw [if_pos h2]; exact skip (fun z => by have := z.2.1; rw [h2] at this; exact absurd this (by decide))
        · rw [if_neg h2]
          by_cases h3 : D c = 1000000000
          · rw [if_pos h3]; exact skip (fun z => z.2.2.1 h3)
          · have hpos : 0 < gA_ σ 153 0 c := by
              rw [i_lt]
              have z0 : (0 : Int32).toInt = 0 := rfl
              have : (gA_ σ 153 0 c).toInt ≠ 0 := fun z => h2 (by rw [i_eq, z]; rfl)
              omega
            rw [if_neg h3, X10_likeIn hCc hm h.2.2.1, Option.bind_some, if_pos ((I_inb (by omega)).mpr hk4), (h.ho hk).2.2]
            have em : (if eHu (envM σ) k ≤ gA_ σ 153 0 c then eHu (envM σ) k else gA_ σ 153 0 c) = imin (gA_ σ 153 0 c) (eHu (envM σ) k) := by
              unfold imin
              by_cases q : eHu (envM σ) k ≤ gA_ σ 153 0 c
              · rw [if_pos q]
                by_cases q2 : eHu (envM σ) k < gA_ σ 153 0 c
                · rw [if_pos q2]
                · rw [if_neg q2, i_eq]
                  rw [i_le] at q
                  rw [i_lt] at q2
                  omega
              · rw [if_neg q, if_neg (fun q2 => by rw [i_le] at q; rw [i_lt] at q2; omega)]
            have both : ∀ (G : Int32 → Option Int32), (if eHu (envM σ) k ≤ gA_ σ 153 0 c then G (eHu (envM σ) k) else G (gA_ σ 153 0 c)) = G (imin (gA_ σ 153 0 c) (eHu (envM σ) k)) := fun G => by
              rw [← em]
              by_cases q : eHu (envM σ) k ≤ gA_ σ 153 0 c
              · rw [if_pos q, if_pos q]
              · rw [if_neg q, if_neg q]
            have el : lkM σ (gA_ σ 114 0 c).toInt.toNat mo = eLk (envM σ) (gA_ σ 114 0 c).toInt.toNat mo := rfl
            rw [both (fun t1 => if inb (I_ c) 64 then if v.2 < lkM σ (gA_ σ 114 0 c).toInt.toNat mo * t1 - D c then m_X10_targetOf_L8 n σ (I_ k) mo (I_ c) (lkM σ (gA_ σ 114 0 c).toInt.toNat mo * t1 - D c) (I_ (c + 1)) else m_X10_targetOf_L8 n σ (I_ k) mo v.1 v.2 (I_ (c + 1)) else none), if_pos ((I_inb (by omega)).mpr hc), el]
            by_cases h4 : v.2 < eLk (envM σ) (gA_ σ 114 0 c).toInt.toNat mo * imin (gA_ σ 153 0 c) (eHu (envM σ) k) - D c
            · rw [if_pos h4]
              rw [hi] at h4
              refine ⟨(I_ c, _), rfl, ?_⟩
              rw [if_pos ⟨h1, hpos, h3, h4⟩]
              unfold tgI
              rw [if_neg (by show ¬ c = 64; omega)]
            · rw [if_neg h4]
              rw [hi] at h4
              exact skip (fun z => h4 z.2.2.2)
      · rw [if_neg h1]; exact skip (fun z => h1 z.1))
    0 fu_ ((-1 : Int32), (0 : Int32)) (by omega) (fu_big (by omega)) rfl
  have e : m_X10_targetOf_L8 fu_ σ (I_ k) mo (-1) 0 0 = _ := e
  rw [e, hv]
