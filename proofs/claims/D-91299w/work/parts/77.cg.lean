/-! ===== the component's night: a herd goes ===== -/
set_option maxRecDepth 100000
def stN (x : sn_T) (N : ar_T) : sn_T := (sS x, sE x, N, sL x, sT x)
theorem trS_stN {e : en_T} {p : Nat → Nat} {x : sn_T} {N : ar_T} : ∀ k, trS e p k (stN x N) = stN (trS e p k x) N := by
  intro k
  induction k with
  | zero => rfl
  | succ k ih =>
    rw [trS, trS, ih]
    by_cases z : eK e (p (k + 1)) = 2
    · rw [if_pos z, if_pos z]; rfl
    · rw [if_neg z, if_neg z]
theorem tgS_T {e : en_T} {x y : sn_T} {D : ar_T} {mo hu : Int32} (h : sS x = sS y) : ∀ n, tgS e x D mo hu n = tgS e y D mo hu n := by
  intro n
  induction n with
  | zero => rfl
  | succ n ih => rw [tgS, tgS, ih, h]
theorem X2_isRipe {σ : st_T} {i c : Nat} (hi : i < 3) (hc : c < 64) : m_X2_isRipe σ i (I_ c) = some (if gA_ σ 51 i c = 2 ∧ 0 < gA_ σ 54 i c then 1 else 0) := by
  unfold m_X2_isRipe m_X2_isRipe_L23 m_X2_isRipe_L24
  have ec : (I_ c).toNatClampNeg = c := I_nat (by omega)
  rw [if_pos hi, if_pos ((I_inb (by omega)).mpr hc), if_pos (Or.inl rfl), if_pos (Or.inr rfl)]
  simp only [ec]
  by_cases h1 : gA_ σ 51 i c = 2
  · rw [if_pos h1]
    by_cases h2 : gA_ σ 54 i c ≤ 0
    · rw [if_pos h2, if_neg (fun z => by have := z.2; rw [i_le] at h2; rw [i_lt] at this; omega)]
    · rw [if_neg h2, if_pos ⟨h1, by rw [i_le] at h2; rw [i_lt]; omega⟩]
  · rw [if_neg h1, if_neg (fun z => h1 z.1)]
theorem X5_like {σ : st_T} {c mo : Int32} (hq : rq σ < gN_ σ 87 ∧ rq σ < gN_ σ 88 ∧ rq σ < gN_ σ 90) (hy : ∀ c, c < 4 → 1 ≤ (gA_ σ 90 (rq σ) c).toInt ∧ (gA_ σ 90 (rq σ) c).toInt ≤ 12) (hc : 0 ≤ c.toInt ∧ c.toInt < 4) (hm : 0 ≤ mo.toInt ∧ mo.toInt < 12) : m_X5_like σ (rq σ) c mo = some (lkC σ c.toInt.toNat mo) := by
  obtain ⟨k, hk⟩ : ∃ k : Nat, k = c.toInt.toNat := ⟨_, rfl⟩
  have e : c = I_ k := by rw [hk]; exact I_of hc.1
  have hk4 : k < 4 := by omega
  have hkk := hy k hk4
  have one : (1 : Int32).toInt = 1 := by decide
  have ek : (I_ k).toNatClampNeg = k := I_nat (by omega)
  have hin : inb (imin mo (gA_ σ 90 (rq σ) k - 1)) 12 := i_inb.mpr (by rw [i_min, i_sub (by omega) (by omega)]; omega)
  rw [← hk, e]
  unfold m_X5_like lkC
  rw [if_pos hq.1, if_pos hq.2.1, if_pos ((I_inb (by omega)).mpr hk4), if_pos hq.2.2]
  simp only [ek]
  rw [if_pos hin, if_pos hk4]
theorem X2_fence2 {σ : st_T} {i a b : Nat} {v : Int32} (hl : lnd σ) (hi : i < 3) (ha : a < 64) (h : adj a b) : ∃ σ', m_X2_fence_2 σ i (I_ a) (I_ b) v = some σ' ∧ fnC σ' i = upd (fnC σ i) (eix a b) v ∧ frP (fun r j => (r = 56 ∨ r = 57) ∧ j = i) nO nO σ σ' := by
  obtain ⟨h1, h2⟩ := adj_abs ha h
  have hb := h.1
  have hm : min a b < 64 := by omega
  unfold m_X2_fence_2 m_X2_fence_2_L21
  rw [h2, if_pos hi, if_pos hi]
  by_cases q : a + 8 = b ∨ b + 8 = a
  · rw [if_neg (fun z => h1.mp z q), if_pos ⟨rfl, by show i < 1 * gN_ σ 57; rw [hl.2.1]; omega⟩, if_pos ((I_inb (by omega)).mpr hm), I_nat (by omega), lt_def]
    refine ⟨_, rfl, ?_, frP.sE (by omega)⟩
    funext e
    unfold fnC eix upd
    rw [if_pos q, gAE_ne (by decide), gAE_s]
    by_cases z : e = 2 * min a b + 1
    · rw [if_pos z, z, if_neg (by omega), show (2 * min a b + 1) / 2 = min a b by omega, upd_s]
    · rw [if_neg z]
      by_cases z2 : e % 2 = 0
      · rw [if_pos z2]; exact (if_pos z2).symm
      · rw [if_neg z2, upd_n (by omega)]; exact (if_neg z2).symm
  · rw [if_pos (h1.mpr q), if_pos ⟨rfl, by show i < 1 * gN_ σ 56; rw [hl.1]; omega⟩, if_pos ((I_inb (by omega)).mpr hm), I_nat (by omega), lt_def]
    refine ⟨_, rfl, ?_, frP.sE (by omega)⟩
    funext e
    unfold fnC eix upd
    rw [if_neg q, gAE_s, gAE_ne (by decide)]
    by_cases z : e = 2 * min a b + 0
    · rw [if_pos z, z, if_pos (by omega), show (2 * min a b + 0) / 2 = min a b by omega, upd_s]
    · rw [if_neg z]
      by_cases z2 : e % 2 = 0
      · rw [if_pos z2, upd_n (by omega)]; exact (if_pos z2).symm
      · rw [if_neg z2]; exact (if_neg z2).symm
abbrev nW : Nat → Nat → Prop := fun r j => (r = 61 ∨ r = 62 ∨ r = 63) ∧ j = 0
theorem vC_fr {σ σ' : st_T} {i li : Nat} {T : Int32} (h : frP nW nCF nCP σ σ') : vC σ' i li T = vC σ i li T := by
  unfold vC
  rw [h.1 54 i (by omega), h.1 55 i (by omega), h.1 32 li (by omega), fnC_of (h.1 56 i (by omega)) (h.1 57 i (by omega))]
theorem X1_costs {σ : st_T} {i li s : Nat} (h : okC σ i li) (hs : s < 64) : ∃ f d, m_X3_from σ i (I_ s) (eSt (envC σ i)) 0 = some (wy σ f d) ∧ ∀ c, c < 64 → f c = dsS (envC σ i) (vC σ i li 0) s c := by
  obtain ⟨f, d, e, hLC, -⟩ := X3_from (bk := 0) h.2.2.1.1 h.2.2.1.2.1 h.sc hs
  refine ⟨f, d, e, fun c hc => ?_⟩
  have hLC' : LC (eOp (envC σ i)) (eW (envC σ i) (vC σ i li 0)) s 0 (toI f) := LC_congr (fun n hn => okC.op hn) (fun c n hc hn => by
    have := okC.w (σ := σ) (i := i) (li := li) (T := 0) hc hn
    unfold wC
    rw [if_pos rfl]
    exact this) hLC
  have := dis_eq (fun c n _ _ => wP_pos) hLC' c hc
  unfold dsS
  rw [← this]
  exact (of_toI (x := f c)).symm
theorem X1_way {σ : st_T} {i li : Nat} (h : okC σ i li) {a t : Nat} (ha : a < 64) (ht : t < 64) : ∃ f d g p L, m_X3_goes σ i (I_ a) (I_ t) (eSt (envC σ i)) = some (wl σ f d g (I_ L)) ∧ PS (eOp (envC σ i)) (eW (envC σ i) (vC σ i li 0)) a t (p, L) ∧ ∀ j, j < L → g j = I_ (p j) := by
  obtain ⟨f, d, g, p, L, e, hP, hg, -⟩ := X3_goes h.2.2.1.1 h.2.2.1.2.1 h.sc ha ht
  exact ⟨f, d, g, p, L, e, PS_congr ht (fun n hn => okC.op hn) (fun c n hc hn => okC.w hc hn) hP, hg⟩
def goEnd (σ : st_T) (i i2 : Nat) (x5 : Int32) : Option (Int32 × st_T) := if x5 = (-1 : Int32) then some ((0 : Int32), σ) else if i2 < gN_ σ 80 then if (gP_ σ 1 31 0) < gN_ σ 87 then (m_X3_goes σ i (gF_ σ 80 0 i2) x5 (gF_ σ 87 3 (gP_ σ 1 31 0))).bind fun σ24 => (m_X1_goes_L166 i i2 fu_) σ24 x5 (0 : Int32) (1 : Int32) else none else none
theorem X1_target {σ : st_T} {i li : Nat} (h : okC σ i li) {k : Nat} (hk : k < eN (envC σ i)) {mo : Int32} (hm : 0 ≤ mo.toInt ∧ mo.toInt < 12) {D : ar_T} (hD : ∀ c, c < 64 → gA_ σ 61 0 c = D c) : m_X1_goes_L29 i (hq σ k) fu_ σ mo 0 (-1) 0 = goEnd σ i (hq σ k) (tgI (tgS (envC σ i) (vC σ i li 0) D mo (eHu (envC σ i) k) 64).1) := by
  have hi := h.2.2.1.2.1
  obtain ⟨v, e, hv⟩ := upto (N := 64) (S := Int32 × Int32) (lp := fun n v c => m_X1_goes_L29 i (hq σ k) n σ mo v.2 v.1 (I_ c)) (k := fun v => goEnd σ i (hq σ k) v.1)
    (inv := fun c v => v = (tgI (tgS (envC σ i) (vC σ i li 0) D mo (eHu (envC σ i) k) c).1, (tgS (envC σ i) (vC σ i li 0) D mo (eHu (envC σ i) k) c).2))
    (fun n v _ => by show m_X1_goes_L29 _ _ (n + 1) _ _ _ _ _ = _; rw [m_X1_goes_L29, if_pos ((le_64 (by omega)).mpr (Nat.le_refl _))]; rfl)
    (fun c n v hc hh => by
      show ∃ v', m_X1_goes_L29 _ _ (n + 1) _ _ _ _ _ = _ ∧ _
      have ec : (I_ c).toNatClampNeg = c := I_nat (by omega)
      have eKc : eK (envC σ i) c = gA_ σ 51 i c := cut_at hc
      have eSc : sS (vC σ i li 0) c = gA_ σ 54 i c := cut_at hc
      have eCc : eC (envC σ i) c = gA_ σ 53 i c := cut_at hc
      have hCc := h.1.2.2.2.2.1 c hc
      rw [eCc] at hCc
      rw [m_X1_goes_L29, if_neg (fun q => absurd ((le_64 (by omega)).mp q) (by omega)), X2_isRipe hi hc, Option.bind_some, if_pos hi]
      unfold m_X1_goes_L125
      rw [I_one]
      simp only [ec]
      rw [tgS, eKc, eSc, eCc]
      have skip : ¬ (gA_ σ 51 i c = 2 ∧ 0 < gA_ σ 54 i c ∧ D c ≠ 1000000000 ∧ (tgS (envC σ i) (vC σ i li 0) D mo (eHu (envC σ i) k) c).2 < eLk (envC σ i) (gA_ σ 53 i c).toInt.toNat mo * imin (gA_ σ 54 i c) (eHu (envC σ i) k) - D c) → ∃ v', m_X1_goes_L29 i (hq σ k) n σ mo v.2 v.1 (I_ (c + 1)) = m_X1_goes_L29 i (hq σ k) n σ mo v'.2 v'.1 (I_ (c + 1)) ∧ v' = (tgI (if gA_ σ 51 i c = 2 ∧ 0 < gA_ σ 54 i c ∧ D c ≠ 1000000000 ∧ (tgS (envC σ i) (vC σ i li 0) D mo (eHu (envC σ i) k) c).2 < eLk (envC σ i) (gA_ σ 53 i c).toInt.toNat mo * imin (gA_ σ 54 i c) (eHu (envC σ i) k) - D c then (c, eLk (envC σ i) (gA_ σ 53 i c).toInt.toNat mo * imin (gA_ σ 54 i c) (eHu (envC σ i) k) - D c) else tgS (envC σ i) (vC σ i li 0) D mo (eHu (envC σ i) k) c).1, (if gA_ σ 51 i c = 2 ∧ 0 < gA_ σ 54 i c ∧ D c ≠ 1000000000 ∧ (tgS (envC σ i) (vC σ i li 0) D mo (eHu (envC σ i) k) c).2 < eLk (envC σ i) (gA_ σ 53 i c).toInt.toNat mo * imin (gA_ σ 54 i c) (eHu (envC σ i) k) - D c then (c, eLk (envC σ i) (gA_ σ 53 i c).toInt.toNat mo * imin (gA_ σ 54 i c) (eHu (envC σ i) k) - D c) else tgS (envC σ i) (vC σ i li 0) D mo (eHu (envC σ i) k) c).2) := fun z => ⟨v, rfl, by rw [if_neg z]; exact hh⟩
      by_cases h1 : gA_ σ 51 i c = 2 ∧ 0 < gA_ σ 54 i c
      · rw [if_pos h1, if_neg (by decide), if_pos ((I_inb (by omega)).mpr hc), hD c hc]
        by_cases h3 : D c = 1000000000
        · rw [if_pos h3]; exact skip (fun z => z.2.2.1 h3)
        · have el : lkC σ (gA_ σ 53 i c).toInt.toNat mo = eLk (envC σ i) (gA_ σ 53 i c).toInt.toNat mo := rfl
          rw [if_neg h3, X5_like h.2.2.2.1 h.2.2.2.2.1 hCc hm, Option.bind_some, if_pos h.2.2.2.1.1, if_pos (h.ho hk).2.1, (h.ho hk).2.2.2.2, el]
          by_cases h4 : v.2 < eLk (envC σ i) (gA_ σ 53 i c).toInt.toNat mo * imin (gA_ σ 54 i c) (eHu (envC σ i) k) - D c
          · rw [if_pos h4]
            rw [hh] at h4
            refine ⟨(I_ c, _), rfl, ?_⟩
            rw [if_pos ⟨h1.1, h1.2, h3, h4⟩]
            unfold tgI
            rw [if_neg (by show ¬ c = 64; omega)]
          · rw [if_neg h4]
            rw [hh] at h4
            exact skip (fun z => h4 z.2.2.2)
      · rw [if_neg h1, if_pos rfl]; exact skip (fun z => h1 ⟨z.1, z.2.1⟩))
    0 fu_ ((-1 : Int32), (0 : Int32)) (by omega) (fu_big (by omega)) rfl
  have e : m_X1_goes_L29 i (hq σ k) fu_ σ mo 0 (-1) 0 = _ := e
  rw [e, hv]
/-- the way is gone: fences fall, what stands is trampled, at last the target -/
theorem X1_run {σ : st_T} {i li : Nat} (h : okC σ i li) {g : ar_T} {p : Nat → Nat} {L t k : Nat} (hg : gA_ σ 62 0 = g) (hL : gF_ σ 60 3 0 = I_ L) (hL64 : L ≤ 64) (hgp : ∀ j, j < L → g j = I_ (p j)) (hp : ∀ j, j < L → p j < 64) (ha : ∀ j, j + 1 < L → adj (p j) (p (j + 1))) (ht : t < 64) (hk : k < eN (envC σ i)) (hKt : eK (envC σ i) t = 2) :
    ∃ σ' v, m_X1_goes_L166 i (hq σ k) fu_ σ (I_ t) 0 1 = some (v, σ') ∧ (∀ T, vC σ' i li (T + v) = eatS (envC σ i) (trS (envC σ i) p (L - 2) (stN (vC σ i li T) (fnS p (L - 1) (sN (vC σ i li T))))) t (eHu (envC σ i) k)) ∧ frP (nC i li) nCF nCP σ σ' := by
  obtain ⟨hl, hi, hli, hgl⟩ := h.2.2.1
  have hPn : ∀ {σ' : st_T}, frP (nC i li) nCF nCP σ σ' → ∀ r q j, gP_ σ' r q j = gP_ σ r q j := fun f r q j => f.2.2.1 r q j (fun z => z)
  obtain ⟨s', e, h1, h2, h3, h4⟩ := uptoF (N := max L 1) (a := 1) (S := st_T × Int32) (lp := fun n s j => m_X1_goes_L166 i (hq σ k) n s.1 (I_ t) s.2 (I_ j)) (k := fun s => bn2_ (m_X1_harms s.1 i (I_ t) (gF_ s.1 80 1 (hq σ k))) fun v5 σ6 => some ((s.2 + v5), σ6))
    (inv := fun j s => frP (nC i li) nCF nCP σ s.1 ∧ gF_ s.1 60 3 0 = I_ L ∧ gA_ s.1 62 0 = g ∧ ∀ T, vC s.1 i li (T + s.2) = trS (envC σ i) p (min (j - 1) (L - 2)) (stN (vC σ i li T) (fnS p (j - 1) (sN (vC σ i li T)))))
    (fun n s hh => by
      show m_X1_goes_L166 _ _ (n + 1) _ _ _ _ = _
      rw [m_X1_goes_L166, hh.2.1, if_pos ((I_le (by omega) (by omega)).mpr (by omega)), if_pos (by rw [hh.1.2.2.2.1]; exact (h.ho hk).2.1)])
    (fun j n s hj1 hj hh => by
      obtain ⟨hf, hFL, hG, hv⟩ := hh
      show ∃ s', m_X1_goes_L166 _ _ (n + 1) _ _ _ _ = _ ∧ _
      have hjL : j < L := by omega
      have ej : (I_ j).toNatClampNeg = j := I_nat (by omega)
      have ej1 : (I_ (j - 1)).toNatClampNeg = j - 1 := I_nat (by omega)
      have hadj := ha (j - 1) (by omega)
      rw [show j - 1 + 1 = j by omega] at hadj
      have hp1 := hp (j - 1) (by omega)
      have hpj := hp j hjL
      have hls : lnd s.1 := by unfold lnd; rw [hf.2.2.2.1]; exact hl
      obtain ⟨σa, ea, fa, ga⟩ := X2_fence2 (v := 0) hls hi hp1 hadj
      rw [m_X1_goes_L166, hFL, if_neg (fun z => absurd ((I_le (by omega) (by omega)).mp z) (by omega)), I_pred (by omega), if_pos ((I_inb (by omega)).mpr (by omega)), if_pos ((I_inb (by omega)).mpr (by omega)), hG, ej, ej1, hgp j hjL, hgp (j - 1) (by omega), ea, Option.bind_some, if_pos hi]
      have ga' : frP (nC i li) nCF nCP s.1 σa := ga.mono (by omega) (fun _ _ z => absurd z id) (fun _ _ z => z)
      have fFL : gF_ σa 60 3 0 = I_ L := by rw [ga.2.1 60 3 0 (fun z => z)]; exact hFL
      have fG : gA_ σa 62 0 = g := by rw [ga.1 62 0 (by omega)]; exact hG
      have va : ∀ T, vC σa i li T = stN (vC s.1 i li T) (upd (sN (vC s.1 i li T)) (eix (p (j - 1)) (p j)) 0) := fun T => by
        unfold vC stN
        rw [ga.1 54 i (by omega), ga.1 55 i (by omega), ga.1 32 li (by omega), fa, cut_upd (eix_lt2 hp1 hpj)]
      have vb : ∀ T, vC σa i li (T + s.2) = trS (envC σ i) p (min (j - 1) (L - 2)) (stN (vC σ i li T) (fnS p (j + 1 - 1) (sN (vC σ i li T)))) := fun T => by
        rw [va, hv T, trS_stN, trS_stN, show j + 1 - 1 = (j - 1) + 1 by omega, fnS, show j - 1 + 1 = j by omega]
        rfl
      unfold m_X1_goes_L240
      rw [fFL, I_pred (by omega), I_one]
      by_cases hjl : j + 1 < L
      · rw [if_neg (fun z => absurd ((I_le (by omega) (by omega)).mp z) (by omega)), fG, hgp j hjL]
        have fE : envC σa i = envC σ i := envC_fr (hf.tr ga')
        have es : ∀ x, trS (envC σ i) p (min (j + 1 - 1) (L - 2)) x = if eK (envC σ i) (p j) = 2 then eatS (envC σ i) (trS (envC σ i) p (min (j - 1) (L - 2)) x) (p j) 5 else trS (envC σ i) p (min (j - 1) (L - 2)) x := fun x => by
          rw [show min (j + 1 - 1) (L - 2) = (j - 1) + 1 by omega, trS, show j - 1 + 1 = j by omega, show min (j - 1) (L - 2) = j - 1 by omega]
        by_cases hK : eK (envC σ i) (p j) = 2
        · obtain ⟨σ2, v2, e2, w2, f2⟩ := X1_harms (σ := σa) (li := li) (much := 5) (by rw [fE]; exact h.1) hi hli (by rw [hPn (hf.tr ga')]; exact hgl) hpj (by rw [fE]; exact hK)
          rw [e2, bn2_def]
          refine ⟨(σ2, s.2 + v2), rfl, (hf.tr ga').tr f2.hC, by rw [f2.2.1 60 3 0 (fun z => z)]; exact fFL, by rw [f2.1 62 0 (by omega)]; exact fG, fun T => ?_⟩
          · show vC σ2 i li (T + (s.2 + v2)) = _
            rw [← Int32.add_assoc, w2, fE, vb T, es, if_pos hK]
        · rw [X1_harms0 hi hpj (by rw [fE]; exact hK), bn2_def]
          refine ⟨(σa, s.2 + 0), rfl, hf.tr ga', fFL, fG, fun T => ?_⟩
          show vC σa i li (T + (s.2 + 0)) = _
          rw [Int32.add_zero, vb T, es, if_neg hK]
      · rw [if_pos ((I_le (by omega) (by omega)).mpr (by omega))]
        refine ⟨(σa, s.2), rfl, hf.tr ga', fFL, fG, fun T => ?_⟩
        show vC σa i li (T + s.2) = _
        rw [vb T, show min (j + 1 - 1) (L - 2) = min (j - 1) (L - 2) by omega])
    (by omega) fu_ (σ, 0) (fu_big (by omega)) ⟨frP.rf, hL, hg, fun T => by
      show vC σ i li (T + 0) = _
      rw [Int32.add_zero, show min (1 - 1) (L - 2) = 0 by omega]; rfl⟩
  have e : m_X1_goes_L166 i (hq σ k) fu_ σ (I_ t) 0 1 = _ := e
  have eE : envC s'.1 i = envC σ i := envC_fr h1
  have e80 : gF_ s'.1 80 1 (hq σ k) = eHu (envC σ i) k := by rw [h1.2.1 80 1 _ (by omega)]; exact (h.ho hk).2.2.2.2
  obtain ⟨σ2, v2, e2, w2, f2⟩ := X1_harms (σ := s'.1) (li := li) (much := eHu (envC σ i) k) (by rw [eE]; exact h.1) hi hli (by rw [hPn h1]; exact hgl) ht (by rw [eE]; exact hKt)
  rw [e, e80, e2, bn2_def]
  refine ⟨σ2, _, rfl, fun T => ?_, h1.tr f2.hC⟩
  rw [← Int32.add_assoc, w2, eE, h4 T, show min (max L 1 - 1) (L - 2) = L - 2 by omega, show max L 1 - 1 = L - 1 by omega]
