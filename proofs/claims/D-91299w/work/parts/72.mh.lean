/-! ===== the model's night: herds, nights ===== -/
set_option maxRecDepth 100000
theorem I_pred {j : Nat} (h : 1 ≤ j) : I_ j - (1 : Int32) = I_ (j - 1) := by
  have e : I_ j = I_ (j - 1) + 1 := by rw [I_one]; congr 1; omega
  rw [e]; exact Int32.add_sub_cancel _ _
theorem fnS_congr {p p' : Nat → Nat} {N : ar_T} : ∀ k, (∀ j, j ≤ k → p j = p' j) → fnS p k N = fnS p' k N := by
  intro k
  induction k with
  | zero => intro _; rfl
  | succ k ih => intro h; rw [fnS, fnS, ih (fun j hj => h j (by omega)), h k (by omega), h (k + 1) (by omega)]
theorem fnS_cut {p : Nat → Nat} {N : ar_T} : ∀ k, (∀ j, j ≤ k → p j < 64) → cut 128 (fnS p k N) = fnS p k (cut 128 N) := by
  intro k
  induction k with
  | zero => intro _; rfl
  | succ k ih => intro h; rw [fnS, fnS, cut_upd (eix_lt2 (h k (by omega)) (h (k + 1) (by omega))), ih (fun j hj => h j (by omega))]
theorem trS_congr {e : en_T} {p p' : Nat → Nat} {x : sn_T} : ∀ k, (∀ j, 1 ≤ j → j ≤ k → p j = p' j) → trS e p k x = trS e p' k x := by
  intro k
  induction k with
  | zero => intro _; rfl
  | succ k ih => intro h; rw [trS, trS, ih (fun j h1 hj => h j h1 (by omega)), h (k + 1) (by omega) (by omega)]
theorem PS_p {op : Nat → Prop} {w : Nat → Nat → Int} {h t : Nat} {p : Nat → Nat} {L : Nat} (a : PS op w h t (p, L)) : L ≤ 64 ∧ (∀ j, j < L → p j < 64) ∧ ∀ j, j + 1 < L → adj (p j) (p (j + 1)) := by
  rcases a with ⟨a1, -⟩ | ⟨-, -, a3⟩
  · have e : L = 0 := a1
    subst e
    exact ⟨by omega, fun j hj => by omega, fun j hj => by omega⟩
  · obtain ⟨-, -, b3, -, b5, b6⟩ := a3
    refine ⟨b3, b5, fun j hj => ?_⟩
    obtain ⟨-, q, hq, e, ok, -⟩ := b6 j hj
    have e' : p (j + 1) = nb (p j) q := e
    rw [e']
    exact adj_nb hq ok.1
/-- fences fall on the way: the loop -/
theorem X10_fall {σ : st_T} {g : ar_T} {p : Nat → Nat} {L : Nat} (kk : st_T → Int32 → Int32 → Option st_T) (x1 x3 x4 : Int32) (hg : gA_ σ 158 0 = g) (hL : gF_ σ 109 49 0 = I_ L) (hL64 : L ≤ 64) (hgp : ∀ j, j < L → g j = I_ (p j)) (hp : ∀ j, j < L → p j < 64) (ha : ∀ j, j + 1 < L → adj (p j) (p (j + 1))) :
    m_X10_passes_L114 kk fu_ σ x1 x3 x4 1 = m_X10_passes_L157 kk fu_ (sA_ σ 154 0 (fnS p (L - 1) (gA_ σ 154 0))) x1 x3 x4 1 := by
  obtain ⟨σ', e, h⟩ := uptoF (N := max L 1) (a := 1) (lp := fun n (σ' : st_T) j => m_X10_passes_L114 kk n σ' x1 x3 x4 (I_ j)) (k := fun σ' => m_X10_passes_L157 kk fu_ σ' x1 x3 x4 1)
    (inv := fun j σ' => σ' = sA_ σ 154 0 (fnS p (j - 1) (gA_ σ 154 0)))
    (fun n σ' h => by
      show m_X10_passes_L114 kk (n + 1) _ _ _ _ _ = _
      have e49 : gF_ σ' 109 49 0 = I_ L := by rw [h, gF_sA]; exact hL
      rw [m_X10_passes_L114, e49, if_pos ((I_le (by omega) (by omega)).mpr (by omega))])
    (fun j n σ' hj1 hj h => by
        refine ⟨_, ?_, rfl⟩
        show m_X10_passes_L114 kk (n + 1) _ _ _ _ _ = _
        have e49 : gF_ σ' 109 49 0 = I_ L := by rw [h, gF_sA]; exact hL
        have e58 : gA_ σ' 158 0 = g := by rw [h, gA_ne (by decide)]; exact hg
        have hjL : j < L := by omega
        have ej : (I_ j).toNatClampNeg = j := I_nat (by omega)
        have ej1 : (I_ (j - 1)).toNatClampNeg = j - 1 := I_nat (by omega)
        rw [m_X10_passes_L114, e49, if_neg (fun z => absurd ((I_le (by omega) (by omega)).mp z) (by omega)), I_pred (by omega), if_pos ((I_inb (by omega)).mpr (by omega)), if_pos ((I_inb (by omega)).mpr (by omega)), e58, ej, ej1, hgp j hjL, hgp (j - 1) (by omega)]
        have hadj := ha (j - 1) (by omega)
        rw [show j - 1 + 1 = j by omega] at hadj
        have hp1 := hp (j - 1) (by omega)
        have hlt := eix_lt hp1 hadj
        rw [X10_edge hp1 hadj, Option.bind_some, if_pos ((I_inb (by omega)).mpr hlt), lt_def, I_nat (by omega), I_one, h, sE_up]
        congr 2
        rw [show j + 1 - 1 = (j - 1) + 1 by omega, fnS, show j - 1 + 1 = j by omega])
    (by omega) fu_ σ (fu_big (by omega)) (by rw [show (1 : Nat) - 1 = 0 by omega, fnS, sA_id])
  have e : m_X10_passes_L114 kk fu_ σ x1 x3 x4 1 = _ := e
  rw [e, h, show max L 1 - 1 = L - 1 by omega]
/-- what stands on the way: the loop -/
theorem X10_trample {σ : st_T} (hM : okM σ) {g : ar_T} {p : Nat → Nat} {L t h : Nat} (kk : st_T → Int32 → Int32 → Option st_T) (x1 : Int32) (hg : gA_ σ 158 0 = g) (hL : gF_ σ 109 49 0 = I_ L) (hL64 : L ≤ 64) (hgp : ∀ j, j < L → g j = I_ (p j)) (hp : ∀ j, j < L → p j < 64) (ht : t < 64) (hh : h < eN (envM σ)) :
    ∃ σ', m_X10_passes_L157 kk fu_ σ x1 (I_ h) (I_ t) 1 = kk σ' x1 (I_ h) ∧ vM σ' = eatS (envM σ) (trS (envM σ) p (L - 2) (vM σ)) t (eHu (envM σ) h) ∧ fra [153, 166] [52] σ σ' := by
  have hh4 : h < 4 := by have := hM.nh.2; omega
  obtain ⟨σ', e, h1, h2⟩ := uptoF (N := max (L - 1) 1) (a := 1) (lp := fun n (σ' : st_T) j => m_X10_passes_L157 kk n σ' x1 (I_ h) (I_ t) (I_ j)) (k := fun σ' => (m_X10_eats σ' (I_ t) (eHu (envM σ) h)).bind fun σ9 => kk σ9 x1 (I_ h))
    (inv := fun j σ' => vM σ' = trS (envM σ) p (j - 1) (vM σ) ∧ fra [153, 166] [52] σ σ')
    (fun n σ' hi => by
      show m_X10_passes_L157 kk (n + 1) _ _ _ _ _ = _
      have e49 : gF_ σ' 109 49 0 = I_ L := by rw [hi.2.2.1 109 49 0 (Or.inr (by decide))]; exact hL
      have e51 : gA_ σ' 151 0 h = eHu (envM σ) h := by rw [hi.2.1 151 0 (by decide)]; exact (hM.ho hh).2.2
      have hc : I_ L - (1 : Int32) ≤ I_ (max (L - 1) 1) := by
        rw [i_le, i_sub (by rw [I_int (by omega)]; have : (1 : Int32).toInt = 1 := by decide
                            omega) (by rw [I_int (by omega)]; have : (1 : Int32).toInt = 1 := by decide
                                       omega), I_int (by omega), I_int (by omega)]
        have : (1 : Int32).toInt = 1 := by decide
        omega
      rw [m_X10_passes_L157, e49, if_pos hc, if_pos ((I_inb (by omega)).mpr hh4), I_nat (by omega), e51])
    (fun j n σ' hj1 hj hi => by
        show ∃ s', m_X10_passes_L157 kk (n + 1) _ _ _ _ _ = _ ∧ _
        have e49 : gF_ σ' 109 49 0 = I_ L := by rw [hi.2.2.1 109 49 0 (Or.inr (by decide))]; exact hL
        have e58 : gA_ σ' 158 0 = g := by rw [hi.2.1 158 0 (by decide)]; exact hg
        have e12 : gA_ σ' 112 0 = gA_ σ 112 0 := hi.2.1 112 0 (by decide)
        have hjL : j + 1 < L := by omega
        have ej : (I_ j).toNatClampNeg = j := I_nat (by omega)
        have hpj := hp j (by omega)
        have epj : (I_ (p j)).toNatClampNeg = p j := I_nat (by omega)
        rw [m_X10_passes_L157, e49, I_pred (by omega), if_neg (fun z => absurd ((I_le (by omega) (by omega)).mp z) (by omega)), if_pos ((I_inb (by omega)).mpr (by omega)), e58, ej, hgp j (by omega), if_pos ((I_inb (by omega)).mpr hpj), epj, e12]
        unfold m_X10_passes_L196
        rw [I_one]
        have eK9 : eK (envM σ) (p j) = gA_ σ 112 0 (p j) := cut_at hpj
        have es : trS (envM σ) p (j + 1 - 1) (vM σ) = if eK (envM σ) (p j) = 2 then eatS (envM σ) (trS (envM σ) p (j - 1) (vM σ)) (p j) 5 else trS (envM σ) p (j - 1) (vM σ) := by
          rw [show j + 1 - 1 = (j - 1) + 1 by omega, trS, show j - 1 + 1 = j by omega]
        by_cases hk : gA_ σ 112 0 (p j) = 2
        · have eE : envM σ' = envM σ := envM_fra (hi.2.mono (by decide) (by decide))
          obtain ⟨σ2, e2, h2, h3⟩ := X10_eats (σ := σ') (much := 5) (by rw [eE]; exact hM.1) hpj
          rw [if_pos hk, e2, Option.bind_some]
          refine ⟨σ2, rfl, ?_, hi.2.tr h3⟩
          rw [es, eK9, if_pos hk, h2, eE, hi.1]
        · rw [if_neg hk]
          exact ⟨σ', rfl, by rw [es, eK9, if_neg hk]; exact hi.1, hi.2⟩)
    (by omega) fu_ σ (fu_big (by omega)) ⟨by rw [show (1 : Nat) - 1 = 0 by omega]; rfl, fra.rf⟩
  have e : m_X10_passes_L157 kk fu_ σ x1 (I_ h) (I_ t) 1 = _ := e
  have eE : envM σ' = envM σ := envM_fra (h2.mono (by decide) (by decide))
  obtain ⟨σ2, e2, h3, h4⟩ := X10_eats (σ := σ') (much := eHu (envM σ) h) (by rw [eE]; exact hM.1) ht
  rw [e, e2, Option.bind_some]
  exact ⟨σ2, rfl, by rw [h3, eE, h1, show max (L - 1) 1 - 1 = L - 2 by omega], h2.tr h4⟩
