/-! ===== the component's costs: the nearest done one by one ===== -/
set_option maxRecDepth 100000
def QD (op : Nat → Prop) (w : Nat → Nat → Int) (s : Nat) (g f d : ar_T) (c : Nat) (q : Nat) (f1 : ar_T) : Prop :=
  JK op w s 0 g f1 ∧ f1 c = f c ∧ (∀ k, k < 64 → d k = 1 → f1 k = f k) ∧ (∀ u, u < 64 → d u = 0 → u ≠ c → (f c).toInt ≤ (f1 u).toInt) ∧ (∀ u, u < 64 → (f1 u).toInt ≤ (f u).toInt) ∧ ∀ q', q' < q → RK op w s c q' f1
theorem fnC_wy {σ : st_T} {f d : ar_T} {i : Nat} : fnC (wy σ f d) i = fnC σ i := by
  unfold fnC
  rw [wy_o (by decide) (by decide), wy_o (by decide) (by decide)]
theorem QD.step {op : Nat → Prop} {w : Nat → Nat → Int} {s : Nat} {g gd f d f1 : ar_T} {c q : Nat} {v : Int32} (hw : ∀ c n, 0 < w c n) (hs : s < 64) (hD : DJ op w s g gd f d) (hc : c < 64) (hdc : d c = 0) (hq : q < 4) (hn : nb c q < 64) (hop : op (nb c q)) (h : QD op w s g f d c q f1) (hv : (f1 c + v).toInt = (f1 c).toInt + w c (nb c q)) : QD op w s g f d c (q + 1) (upd f1 (nb c q) (imin (f1 (nb c q)) (f1 c + v))) := by
  obtain ⟨h1, h2, h3, h4, h5, h6⟩ := h
  have ha := adj_nb hq hn
  have hwc := hw c (nb c q)
  by_cases hlt : f1 c + v < f1 (nb c q)
  · have e : imin (f1 (nb c q)) (f1 c + v) = f1 c + v := by unfold imin; rw [if_pos hlt]
    rw [e]
    rw [i_lt, hv] at hlt
    have hnc : nb c q ≠ c := fun z => by rw [z] at hlt; rw [z] at hwc; omega
    have hnd : d (nb c q) ≠ 1 := fun z => by
      have k1 := h3 _ hn z
      have k2 := hD.2.2.2.1 _ _ hn hc z hdc
      rw [k1] at hlt
      rw [h2] at hlt
      omega
    have hr := JK.relax hw hs (by omega) h1 hc ha hop hv (by rw [hv]; exact hlt)
    refine ⟨hr.1, by rw [upd_n (fun z => hnc z.symm)]; exact h2, fun k hk hdk => ?_, fun u hu hdu huc => ?_, fun u hu => ?_, fun q' hq' => ?_⟩
    · rw [upd_n (fun z => hnd (by rw [← z]; exact hdk))]; exact h3 k hk hdk
    · by_cases z : u = nb c q
      · rw [z, upd_s, hv, h2]; omega
      · rw [upd_n z]; exact h4 u hu hdu huc
    · by_cases z : u = nb c q
      · rw [z, upd_s, hv]
        have := h5 _ hn
        omega
      · rw [upd_n z]; exact h5 u hu
    · intro k1 k2 k3 k4
      rw [upd_n (fun z => hnc z.symm)] at k1 ⊢
      by_cases z : nb c q' = nb c q
      · rw [z, upd_s, hv]; exact Int.le_refl _
      · rw [upd_n z]
        have : q' < q := by
          by_cases e9 : q' = q
          · exact absurd (by rw [e9]) z
          · omega
        exact h6 q' this k1 k2 k3 k4
  · have e : imin (f1 (nb c q)) (f1 c + v) = f1 (nb c q) := by unfold imin; rw [if_neg hlt]
    rw [e, upd_id rfl]
    rw [i_lt, hv] at hlt
    refine ⟨h1, h2, h3, h4, h5, fun q' hq' => ?_⟩
    by_cases z : q' = q
    · intro _ _ _ _; rw [z]; omega
    · exact h6 q' (by omega)
theorem QD.done {op : Nat → Prop} {w : Nat → Nat → Int} {s : Nat} {g gd f d f1 : ar_T} {c : Nat} (hD : DJ op w s g gd f d) (hc : c < 64) (hdc : d c = 0) (hcF : (f c).toInt < FAR_) (h : QD op w s g f d c 4 f1) : DJ op w s g gd f1 (upd d c 1) := by
  obtain ⟨h1, h2, h3, h4, h5, h6⟩ := h
  obtain ⟨d1, d2, d3, d4, d5, d6⟩ := hD
  refine ⟨h1, fun k hk => ?_, fun k hk hdk => ?_, fun k u hk hu hdk hdu => ?_, fun k hk hdk q hq => ?_, fun j hj => ?_⟩
  · by_cases z : k = c
    · rw [z, upd_s]; exact Or.inr rfl
    · rw [upd_n z]; exact d2 k hk
  · by_cases z : k = c
    · rw [z, h2]; exact hcF
    · rw [upd_n z] at hdk
      rw [h3 k hk hdk]; exact d3 k hk hdk
  · have huc : u ≠ c := fun z => by rw [z, upd_s] at hdu; exact absurd hdu (by decide)
    rw [upd_n huc] at hdu
    have k1 := h4 u hu hdu huc
    by_cases z : k = c
    · rw [z, h2]; exact k1
    · rw [upd_n z] at hdk
      rw [h3 k hk hdk]
      have := d4 k c hk hc hdk hdc
      omega
  · by_cases z : k = c
    · rw [z]; exact h6 q hq
    · rw [upd_n z] at hdk
      intro k1 k2 k3 k4
      rw [h3 k hk hdk] at k1 ⊢
      have := d5 k hk hdk q hq k1 k2 k3 k4
      have := h5 _ k2
      omega
  · rw [upd_n (by omega)]; exact d6 j hj
theorem X3_from_in {σ : st_T} {i s : Nat} {st bk : Int32} (hl : lnd σ) (hi : i < 3) (hsc : scC σ i st) (hs : s < 64) {g gd f d : ar_T} {c : Nat} (K : st_T → Int32 → Int32 → Int32 → Option st_T) (hD : DJ (opC σ i) (wC σ i st bk) s g gd f d) (hc : c < 64) (hdc : d c = 0) (hmin : ∀ k, k < 64 → d k = 0 → (f c).toInt ≤ (f k).toInt) :
    ∃ f1, m_X3_from_L63 i K fu_ (wy σ f (upd d c 1)) st bk (I_ c) (I_ 0) = ((m_X3_nearest (wy σ f1 (upd d c 1))).bind fun v7 => K (wy σ f1 (upd d c 1)) st bk v7) ∧ QD (opC σ i) (wC σ i st bk) s g f d c 4 f1 := by
  have hl' : ∀ f1, lnd (wy σ f1 (upd d c 1)) := fun _ => hl
  exact upto (N := 4) (lp := fun m (f1 : ar_T) q => m_X3_from_L63 i K m (wy σ f1 (upd d c 1)) st bk (I_ c) (I_ q)) (k := fun f1 => ((m_X3_nearest (wy σ f1 (upd d c 1))).bind fun v7 => K (wy σ f1 (upd d c 1)) st bk v7))
    (inv := fun q f1 => QD (opC σ i) (wC σ i st bk) s g f d c q f1)
    (fun m f1 _ => by show m_X3_from_L63 i K (m + 1) _ _ _ _ _ = _; rw [m_X3_from_L63, if_pos ((le_4 (by omega)).mpr (Nat.le_refl _))])
    (fun q m f1 hq hQ => by
      show ∃ f', m_X3_from_L63 i K (m + 1) _ _ _ _ _ = _ ∧ _
      have skip : RK (opC σ i) (wC σ i st bk) s c q f1 → QD (opC σ i) (wC σ i st bk) s g f d c (q + 1) f1 := fun hR => by
        obtain ⟨h1, h2, h3, h4, h5, h6⟩ := hQ
        refine ⟨h1, h2, h3, h4, h5, fun q' hq' => ?_⟩
        by_cases z : q' = q
        · rw [z]; exact hR
        · exact h6 q' (by omega)
      rw [m_X3_from_L63, if_neg (fun z => absurd ((le_4 (by omega)).mp z) (by omega)), X1_nb hc hq, Option.bind_some]
      unfold m_X3_from_L133 m_X3_from_L138
      rw [I_one]
      by_cases h64 : nb c q = 64
      · rw [if_pos h64, X2_openN, Option.bind_some, if_pos hi, if_pos rfl]
        exact ⟨f1, rfl, skip (fun _ k => by omega)⟩
      · have hn : nb c q < 64 := by have := nb_le c q hc hq; omega
        have ha := adj_nb hq hn
        rw [if_neg h64, X2_open hi hn, Option.bind_some, if_pos hi, wy_o (by decide) (by decide)]
        by_cases hk : gA_ σ 51 i (nb c q) = 1
        · rw [if_pos hk, if_pos rfl]
          exact ⟨f1, rfl, skip (fun _ _ k => absurd hk k)⟩
        · rw [if_neg hk, if_neg (by decide), if_pos ((I_inb (by omega)).mpr hn), if_pos ((I_inb (by omega)).mpr hc)]
          have hF9 : FAR_ = 1000000000 := rfl
          have hfc := hQ.1.far hc
          by_cases hb : bk = 0
          · have hst := step_int hsc hc ha
            have hw1 := wP_adj hsc hc ha
            rw [if_pos hb, X2_step (hl' f1) hi hc ha, Option.bind_some, if_pos ((I_inb (by omega)).mpr hn), lt_def, I_nat (by omega), I_nat (by omega), wy_61, wy_u61, fnC_wy, wy_o (by decide) (by decide)]
            refine ⟨_, rfl, hQ.step wC_pos hs hD hc hdc hq hn hk ?_⟩
            have e9 : wC σ i st bk c (nb c q) = wP st (fnC σ i) (gA_ σ 55 i) c (nb c q) := if_pos hb
            rw [e9, i_add (by rw [hst]; omega) (by rw [hst]; omega), hst]
          · have ha' := adj_symm hc ha
            have hst := step_int hsc hn ha'
            have hw1 := wP_adj hsc hn ha'
            rw [if_neg hb, X2_step (hl' f1) hi hn ha', Option.bind_some, if_pos ((I_inb (by omega)).mpr hn), lt_def, I_nat (by omega), I_nat (by omega), wy_61, wy_u61, fnC_wy, wy_o (by decide) (by decide)]
            refine ⟨_, rfl, hQ.step wC_pos hs hD hc hdc hq hn hk ?_⟩
            have e9 : wC σ i st bk c (nb c q) = wP st (fnC σ i) (gA_ σ 55 i) (nb c q) c := if_neg hb
            rw [e9, i_add (by rw [hst]; omega) (by rw [hst]; omega), hst])
    0 fu_ f (by omega) (fu_big (by omega)) ⟨hD.1, rfl, fun _ _ _ => rfl, fun u hu hdu _ => hmin u hu hdu, fun _ _ => Int.le_refl _, fun _ h => by omega⟩
theorem X3_from_run {σ : st_T} {i s : Nat} {st bk : Int32} (hl : lnd σ) (hi : i < 3) (hsc : scC σ i st) (hs : s < 64) {g gd : ar_T} : ∀ (n : Nat) (f d : ar_T) (v : Int32), DJ (opC σ i) (wC σ i st bk) s g gd f d → cntD d < n →
    ((v = -1 ∧ ∀ k, k < 64 → d k = 0 → FAR_ ≤ (f k).toInt) ∨ ∃ c, c < 64 ∧ v = I_ c ∧ d c = 0 ∧ (f c).toInt < FAR_ ∧ ∀ k, k < 64 → d k = 0 → (f c).toInt ≤ (f k).toInt) →
    ∃ f' d', m_X3_from_L46 i n (wy σ f d) st bk v = some (wy σ f' d') ∧ LC (opC σ i) (wC σ i st bk) s 0 (toI f') ∧ (∀ j, 64 ≤ j → f' j = g j) ∧ ∀ j, 64 ≤ j → d' j = gd j := by
  intro n
  induction n with
  | zero => intro f d v _ h; omega
  | succ n ih =>
    intro f d v hD hn hv
    rw [m_X3_from_L46]
    rcases hv with ⟨hv, hall⟩ | ⟨c, hc, hv, hdc, hcF, hmin⟩
    · rw [if_pos hv]
      refine ⟨f, d, rfl, hD.1.LC fun c hc q hq => ?_, hD.1.2, hD.2.2.2.2.2⟩
      rcases hD.2.1 c hc with h0 | h1
      · intro k; have := hall c hc h0; omega
      · exact hD.2.2.2.2.1 c hc h1 q hq
    · rw [hv, if_neg (I_neg (by omega)), if_pos ((I_inb (by omega)).mpr hc), I_nat (by omega), lt_def, nar_1, wy_u63]
      obtain ⟨f1, e, hQ⟩ := X3_from_in hl hi hsc hs (m_X3_from_L46 i n) hD hc hdc hmin
      have e' : m_X3_from_L63 i (m_X3_from_L46 i n) fu_ (wy σ f (upd d c 1)) st bk (I_ c) 0 = _ := e
      rw [e']
      have hD1 := hQ.done hD hc hdc hcF
      obtain ⟨v7, e7, h7⟩ := X3_nearest (σ := σ) (f := f1) (d := upd d c 1) (fun k hk => (hD1.1.far hk).1)
      rw [e7, Option.bind_some]
      exact ih f1 (upd d c 1) v7 hD1 (by have := cntD_upd hc hdc; omega) h7
theorem X3_from {σ : st_T} {i s : Nat} {st bk : Int32} (hl : lnd σ) (hi : i < 3) (hsc : scC σ i st) (hs : s < 64) : ∃ f d, m_X3_from σ i (I_ s) st bk = some (wy σ f d) ∧ LC (opC σ i) (wC σ i st bk) s 0 (toI f) ∧ (∀ j, 64 ≤ j → f j = gA_ σ 61 0 j) ∧ ∀ j, 64 ≤ j → d j = gA_ σ 63 0 j := by
  obtain ⟨σ', e, h⟩ := upto (N := 64) (lp := fun n (σ' : st_T) c => m_X3_from_L3 i n σ' (I_ s) st bk (I_ c)) (k := fun σ' => ((m_X3_nearest (sE_ σ' 61 0 s 0)).bind fun v => m_X3_from_L46 i fu_ (sE_ σ' 61 0 s 0) st bk v))
    (inv := fun c σ' => σ' = wy σ (fil c (fun _ => 1000000000) (gA_ σ 61 0)) (fil c (fun _ => 0) (gA_ σ 63 0)))
    (fun n σ' h => by
      show m_X3_from_L3 i (n + 1) _ _ _ _ _ = _
      rw [m_X3_from_L3, if_pos ((le_64 (by omega)).mpr (Nat.le_refl _)), if_pos ((I_inb (by omega)).mpr hs), I_nat (by omega), lt_def])
    (fun c n σ' hc h => by
      refine ⟨sE_ (sE_ σ' 61 0 c 1000000000) 63 0 c 0, ?_, ?_⟩
      · show m_X3_from_L3 i (n + 1) _ _ _ _ _ = _
        rw [m_X3_from_L3, if_neg (fun q => absurd ((le_64 (by omega)).mp q) (by omega)), if_pos ((I_inb (by omega)).mpr hc), I_nat (by omega), lt_def, lt_def, nar_0, I_one]
      · rw [h, wy_u61, wy_u63, fil_s (v := fun _ => 1000000000), fil_s (v := fun _ => 0)])
    0 fu_ σ (by omega) (fu_big (by omega)) (by rw [fil_0, fil_0]; unfold wy; rw [sA_id, sA_id])
  have e : m_X3_from σ i (I_ s) st bk = _ := e
  rw [e, h, wy_u61]
  have hD : DJ (opC σ i) (wC σ i st bk) s (gA_ σ 61 0) (gA_ σ 63 0) (upd (fil 64 (fun _ => 1000000000) (gA_ σ 61 0)) s 0) (fil 64 (fun _ => 0) (gA_ σ 63 0)) := by
    have z : ∀ c, c < 64 → fil 64 (fun _ => (0 : Int32)) (gA_ σ 63 0) c = 0 := fun c hc => fil_at hc
    refine ⟨⟨LJ.start (by decide) ?_ fun c hc hcs => ?_, fun j hj => ?_⟩, fun c hc => Or.inl (z c hc), fun c hc h1 => ?_, fun c u hc _ h1 => ?_, fun c hc h1 => ?_, fun j hj => fil_ge hj⟩
    · show (upd _ s 0 s).toInt = 0
      rw [upd_s]; rfl
    · show (upd _ s 0 c).toInt = _
      rw [upd_n hcs, fil_at hc, far_int]
    · rw [upd_n (by omega), fil_ge hj]
    · rw [z c hc] at h1; exact absurd h1 (by decide)
    · rw [z c hc] at h1; exact absurd h1 (by decide)
    · rw [z c hc] at h1; exact absurd h1 (by decide)
  obtain ⟨v, ev, hv⟩ := X3_nearest (σ := σ) (f := upd (fil 64 (fun _ => 1000000000) (gA_ σ 61 0)) s 0) (d := fil 64 (fun _ => 0) (gA_ σ 63 0)) (fun k hk => (hD.1.far hk).1)
  rw [ev, Option.bind_some]
  exact X3_from_run hl hi hsc hs fu_ _ _ v hD (by have := cntD_hi (fil 64 (fun _ => (0 : Int32)) (gA_ σ 63 0)); have h9 : fu_ = 1000000000000 := rfl; omega) hv
