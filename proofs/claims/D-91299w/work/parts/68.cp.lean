/-! ===== the component's way ===== -/
set_option maxRecDepth 100000
abbrev wl (σ : st_T) (f d g : ar_T) (v : Int32) : st_T := sF_ (sA_ (wy σ f d) 62 0 g) 60 3 0 v
theorem wl_f {σ : st_T} {f d g : ar_T} {v : Int32} : gA_ (wl σ f d g v) 61 0 = f := by rw [gA_sF, gA_ne (by decide), wy_61]
theorem wl_g {σ : st_T} {f d g : ar_T} {v : Int32} : gA_ (wl σ f d g v) 62 0 = g := by rw [gA_sF, gA_same]
theorem wl_o {σ : st_T} {f d g : ar_T} {v : Int32} {r i : Nat} (h1 : r ≠ 61) (h2 : r ≠ 63) (h3 : r ≠ 62) : gA_ (wl σ f d g v) r i = gA_ σ r i := by rw [gA_sF, gA_ne h3, wy_o h1 h2]
theorem wl_v {σ : st_T} {f d g : ar_T} {v : Int32} : gF_ (wl σ f d g v) 60 3 0 = v := gF_s
theorem wl_ug {σ : st_T} {f d g : ar_T} {v x : Int32} {j : Nat} : sE_ (wl σ f d g v) 62 0 j x = wl σ f d (upd g j x) v := by
  rw [sE_sA, wl_g]
  show sF_ (sA_ (sA_ (wy σ f d) 62 0 g) 62 0 (upd g j x)) 60 3 0 v = _
  rw [sA_sA]
theorem wl_uv {σ : st_T} {f d g : ar_T} {v x : Int32} : sF_ (wl σ f d g v) 60 3 0 x = wl σ f d g x := sF_sF
theorem fnC_wl {σ : st_T} {f d g : ar_T} {v : Int32} {i : Nat} : fnC (wl σ f d g v) i = fnC σ i := by
  unfold fnC
  rw [wl_o (by decide) (by decide) (by decide), wl_o (by decide) (by decide) (by decide)]
noncomputable abbrev wD (σ : st_T) (i : Nat) (st : Int32) : Nat → Nat → Int := wP st (fnC σ i) (gA_ σ 55 i)
theorem X3_ok {σ : st_T} {i t c q : Nat} {st : Int32} {f d g : ar_T} {v x3 : Int32} (hl : lnd σ) (hi : i < 3) (hsc : scC σ i st) (hLC : LC (opC σ i) (bwd (wD σ i st)) t 0 (toI f)) (hot : opC σ i t) (hc : c < 64) (hcF : (f c).toInt < FAR_) (hq : q < 4) {k : Nat} (hv : v = I_ k) (hk : k < 64) (K : st_T → Int32 → Int32 → Option st_T) (n : Nat) :
    (okq (toI f) (wD σ i st) c q → m_X3_goes_L83 i K (n + 1) (wl σ f d g v) x3 st (I_ c) (I_ q) = K (wl σ f d (upd g k (I_ (nb c q))) (I_ (k + 1))) x3 st) ∧
    (¬ okq (toI f) (wD σ i st) c q → m_X3_goes_L83 i K (n + 1) (wl σ f d g v) x3 st (I_ c) (I_ q) = m_X3_goes_L83 i K n (wl σ f d g v) x3 st (I_ c) (I_ (q + 1))) := by
  have hl' : lnd (wl σ f d g v) := hl
  rw [m_X3_goes_L83, X1_nb hc hq, Option.bind_some]
  unfold m_X3_goes_L135
  rw [I_one]
  by_cases h64 : nb c q = 64
  · rw [if_pos h64, X2_openN, Option.bind_some, if_pos hi, if_pos rfl]
    exact ⟨fun h => by have := h.1; omega, fun _ => rfl⟩
  · have hn : nb c q < 64 := by have := nb_le c q hc hq; omega
    have ha := adj_nb hq hn
    rw [if_neg h64, X2_open hi hn, Option.bind_some, if_pos hi, wl_o (by decide) (by decide) (by decide)]
    by_cases hop : gA_ σ 51 i (nb c q) = 1
    · rw [if_pos hop, if_pos rfl]
      refine ⟨fun h => ?_, fun _ => rfl⟩
      exfalso
      have hnt : nb c q ≠ t := fun z => hot (by rw [← z]; exact hop)
      have := hLC.2.2.1 _ hn hnt (fun z => z hop)
      have h2 := h.2.1
      omega
    · rw [if_neg hop, if_neg (by decide), Option.bind_some, if_pos ((I_inb (by omega)).mpr hn), Option.bind_some, X2_step hl' hi hc ha, Option.bind_some, if_pos ((I_inb (by omega)).mpr hc), wl_f, I_nat (by omega), I_nat (by omega), fnC_wl, wl_o (by decide) (by decide) (by decide), wl_v, hv]
      have hF9 : FAR_ = 1000000000 := rfl
      have hst := step_int hsc hc ha
      have hw1 := wP_adj hsc hc ha
      have hfn : 0 ≤ (f (nb c q)).toInt ∧ (f (nb c q)).toInt ≤ FAR_ := hLC.2.1 _ hn
      have hsum : (f (nb c q) + (st + fnC σ i (eix c (nb c q)) + gA_ σ 55 i (nb c q))).toInt = (f (nb c q)).toInt + wD σ i st c (nb c q) := by
        rw [i_add (by rw [hst]; omega) (by rw [hst]; omega), hst]
      have hw2 : 0 < wD σ i st c (nb c q) := wP_pos
      by_cases he : f (nb c q) + (st + fnC σ i (eix c (nb c q)) + gA_ σ 55 i (nb c q)) = f c
      · rw [if_pos he, lt_def, Option.bind_some, if_pos ((I_inb (by omega)).mpr hk), lt_def, I_nat (by omega), I_one, wl_uv, wl_ug]
        refine ⟨fun _ => rfl, fun h => absurd ⟨hn, ?_, ?_⟩ h⟩
        · show (f (nb c q)).toInt < FAR_
          rw [i_eq, hsum] at he
          omega
        · show (f c).toInt = _
          rw [← he, hsum]
      · rw [if_neg he]
        refine ⟨fun h => absurd ?_ he, fun _ => rfl⟩
        rw [i_eq, hsum]
        exact h.2.2.symm
theorem X3_run {σ : st_T} {i t : Nat} {st : Int32} {f d : ar_T} (hl : lnd σ) (hi : i < 3) (hsc : scC σ i st) (hLC : LC (opC σ i) (bwd (wD σ i st)) t 0 (toI f)) (hot : opC σ i t) (ht : t < 64) (g0 : ar_T) : ∀ (r n c k : Nat) (p : Nat → Nat) (g : ar_T), rnk (toI f) c ≤ r → r + 1 < n → c < 64 → (f c).toInt < FAR_ → k + rnk (toI f) c ≤ 63 → p k = c → (∀ j, j ≤ k → p j < 64) → (∀ j, j < k → p j ≠ t ∧ isNx (toI f) (wD σ i st) (p j) (p (j + 1))) → (∀ j, j ≤ k → g j = I_ (p j)) → (∀ j, 64 ≤ j → g j = g0 j) →
    ∃ p' L g', m_X3_goes_L52 i n (wl σ f d g (I_ (k + 1))) (I_ t) st = some (wl σ f d g' (I_ L)) ∧ PathR (toI f) (wD σ i st) (p 0) t p' L ∧ (∀ j, j < L → g' j = I_ (p' j)) ∧ ∀ j, 64 ≤ j → g' j = g0 j := by
  intro r
  induction r with
  | zero =>
    intro n c k p g h1 h2 hc hcF h3 hpk hp64 hp hg hg0
    cases n with
    | zero => omega
    | succ n =>
      have hk1 : I_ (k + 1) - (1 : Int32) = I_ k := by
        rw [← I_one]; exact Int32.add_sub_cancel _ _
      rw [m_X3_goes_L52, wl_v, hk1, if_pos ((I_inb (by omega)).mpr (by omega)), wl_g, I_nat (by omega), hg k (Nat.le_refl _), hpk]
      by_cases hct : c = t
      · rw [hct, if_pos rfl]
        exact ⟨p, k + 1, g, rfl, ⟨rfl, by omega, by omega, by rw [show k + 1 - 1 = k by omega, hpk, hct], fun j hj => hp64 j (by omega), fun j hj => hp j (by omega)⟩, fun j hj => hg j (by omega), hg0⟩
      · exfalso
        obtain ⟨q, hq, hok, -⟩ := LC_next hLC hc hct hcF
        have hw2 : 0 < wD σ i st c (nb c q) := wP_pos
        have e : toI f c = toI f (nb c q) + wD σ i st c (nb c q) := hok.2.2
        have := rnk_lt (f := toI f) (c := c) hok.1 (by omega)
        omega
  | succ r ih =>
    intro n c k p g h1 h2 hc hcF h3 hpk hp64 hp hg hg0
    cases n with
    | zero => omega
    | succ n =>
      have hk1 : I_ (k + 1) - (1 : Int32) = I_ k := by
        rw [← I_one]; exact Int32.add_sub_cancel _ _
      rw [m_X3_goes_L52, wl_v, hk1, if_pos ((I_inb (by omega)).mpr (by omega)), wl_g, I_nat (by omega), hg k (Nat.le_refl _), hpk]
      by_cases hct : c = t
      · rw [hct, if_pos rfl]
        exact ⟨p, k + 1, g, rfl, ⟨rfl, by omega, by omega, by rw [show k + 1 - 1 = k by omega, hpk, hct], fun j hj => hp64 j (by omega), fun j hj => hp j (by omega)⟩, fun j hj => hg j (by omega), hg0⟩
      · rw [if_neg (fun z => hct ((I_inj (by omega) (by omega)).mp z))]
        obtain ⟨q, hq, hok, hno⟩ := LC_next hLC hc hct hcF
        have hn := hok.1
        have hw2 : 0 < wD σ i st c (nb c q) := wP_pos
        have hlt0 : toI f (nb c q) < toI f c := by have e : toI f c = toI f (nb c q) + wD σ i st c (nb c q) := hok.2.2; omega
        have hr0 := rnk_lt (f := toI f) hok.1 hlt0
        have hk64 : k + 1 < 64 := by omega
        obtain ⟨-, e, -⟩ := upto (N := q) (S := Unit) (lp := fun m _ q => m_X3_goes_L83 i (m_X3_goes_L52 i n) m (wl σ f d g (I_ (k + 1))) (I_ t) st (I_ c) (I_ q)) (k := fun _ => m_X3_goes_L52 i n (wl σ f d (upd g (k + 1) (I_ (nb c q))) (I_ (k + 1 + 1))) (I_ t) st) (inv := fun _ _ => True)
          (fun m _ _ => (X3_ok hl hi hsc hLC hot hc hcF hq rfl hk64 (m_X3_goes_L52 i n) m).1 hok)
          (fun q' m _ hq' _ => ⟨(), (X3_ok hl hi hsc hLC hot hc hcF (by omega) rfl hk64 (m_X3_goes_L52 i n) m).2 (hno q' hq'), trivial⟩)
          0 fu_ () (by omega) (fu_big (by omega)) trivial
        have e' : m_X3_goes_L83 i (m_X3_goes_L52 i n) fu_ (wl σ f d g (I_ (k + 1))) (I_ t) st (I_ c) 0 = _ := e
        rw [e']
        obtain ⟨p', L, g', e2, hP, hg2, hg3⟩ := ih n (nb c q) (k + 1) (fun j => if j = k + 1 then nb c q else p j) (upd g (k + 1) (I_ (nb c q))) (by omega) (by omega) hn hok.2.1 (by omega) (by show (if k + 1 = k + 1 then nb c q else p (k + 1)) = _; rw [if_pos rfl])
          (fun j hj => by
            show (if j = k + 1 then nb c q else p j) < 64
            by_cases z : j = k + 1
            · rw [if_pos z]; exact hn
            · rw [if_neg z]; exact hp64 j (by omega))
          (fun j hj => by
            show (if j = k + 1 then nb c q else p j) ≠ t ∧ isNx (toI f) (wD σ i st) (if j = k + 1 then nb c q else p j) (if j + 1 = k + 1 then nb c q else p (j + 1))
            rw [if_neg (by omega)]
            by_cases z : j = k
            · rw [if_pos (by omega), z, hpk]; exact ⟨hct, q, hq, rfl, hok, hno⟩
            · rw [if_neg (by omega)]; exact hp j (by omega))
          (fun j hj => by
            show upd g (k + 1) (I_ (nb c q)) j = I_ (if j = k + 1 then nb c q else p j)
            by_cases z : j = k + 1
            · rw [if_pos z, z, upd_s]
            · rw [if_neg z, upd_n z]; exact hg j (by omega))
          (fun j hj => by rw [upd_n (by omega)]; exact hg0 j hj)
        rw [if_neg (by omega)] at hP
        exact ⟨p', L, g', e2, hP, hg2, hg3⟩
theorem X3_goes {σ : st_T} {i h t : Nat} {st : Int32} (hl : lnd σ) (hi : i < 3) (hsc : scC σ i st) (hh : h < 64) (ht : t < 64) : ∃ f d g p L, m_X3_goes σ i (I_ h) (I_ t) st = some (wl σ f d g (I_ L)) ∧ PS (opC σ i) (wD σ i st) h t (p, L) ∧ (∀ j, j < L → g j = I_ (p j)) ∧ (∀ j, 64 ≤ j → f j = gA_ σ 61 0 j) ∧ (∀ j, 64 ≤ j → d j = gA_ σ 63 0 j) ∧ ∀ j, 64 ≤ j → g j = gA_ σ 62 0 j := by
  unfold m_X3_goes
  rw [lt_def, X2_open hi ht, Option.bind_some, if_pos hi, gA_sF]
  by_cases hk : gA_ σ 51 i t = 1
  · rw [if_pos hk, if_pos rfl]
    refine ⟨gA_ σ 61 0, gA_ σ 63 0, gA_ σ 62 0, fun _ => 0, 0, ?_, Or.inl ⟨rfl, Or.inl (fun z => z hk)⟩, fun j hj => by omega, fun _ _ => rfl, fun _ _ => rfl, fun _ _ => rfl⟩
    congr 1
    show _ = sF_ (sA_ (sA_ (sA_ σ 61 0 (gA_ σ 61 0)) 63 0 (gA_ σ 63 0)) 62 0 (gA_ σ 62 0)) 60 3 0 0
    rw [sA_id, sA_id, sA_id]
  · rw [if_neg hk, if_neg (by decide)]
    have hl' : lnd (sF_ σ 60 3 0 0) := hl
    obtain ⟨f, d, e, hLC, hf, hd⟩ := X3_from (σ := sF_ σ 60 3 0 0) (bk := 1) hl' hi (show scC (sF_ σ 60 3 0 0) i st from hsc) ht
    have hw : wC (sF_ σ 60 3 0 0) i st 1 = bwd (wD σ i st) := by
      funext c n
      exact if_neg (by decide)
    rw [hw] at hLC
    have hLC : LC (opC σ i) (bwd (wD σ i st)) t 0 (toI f) := hLC
    have hdis := dis_eq (fun c n _ _ => wP_pos) hLC
    rw [e, Option.bind_some, if_pos ((I_inb (by omega)).mpr hh), wy_61, I_nat (by omega)]
    have hw3 : wy (sF_ σ 60 3 0 0) f d = wl σ f d (gA_ σ 62 0) 0 := by
      have : gA_ (wy σ f d) 62 0 = gA_ σ 62 0 := wy_o (by decide) (by decide)
      show sF_ (wy σ f d) 60 3 0 0 = sF_ (sA_ (wy σ f d) 62 0 (gA_ σ 62 0)) 60 3 0 0
      rw [← this, sA_id]
    rw [hw3]
    by_cases hF : f h = (1000000000 : Int32)
    · rw [if_pos hF]
      rw [far_eq] at hF
      exact ⟨f, d, _, fun _ => 0, 0, rfl, Or.inl ⟨rfl, Or.inr (by rw [← hdis h hh]; exact hF)⟩, fun j hj => by omega, hf, hd, fun _ _ => rfl⟩
    · rw [if_neg hF, lt_def, wl_v, if_pos (by decide), lt_def, wl_uv, wl_ug]
      rw [far_eq] at hF
      have hhF : (f h).toInt ≤ FAR_ := (hLC.2.1 h hh).2
      obtain ⟨p, L, g', e3, hP, h4, h5⟩ := X3_run (d := d) hl hi hsc hLC hk ht (gA_ σ 62 0) 63 fu_ h 0 (fun _ => h) (upd (gA_ σ 62 0) 0 (I_ h)) (rnk_hi hh) (fu_big (by omega)) hh (by omega) (by have := rnk_hi (f := toI f) hh; omega) rfl (fun _ _ => hh) (fun j hj => by omega) (fun j hj => by rw [show j = 0 by omega, upd_s]) (fun j hj => by rw [upd_n (by omega)])
      refine ⟨f, d, g', p, L, e3, Or.inr ⟨hk, by rw [← hdis h hh]; show (f h).toInt < FAR_; omega, PathR_f hdis hP⟩, h4, hf, hd, h5⟩
