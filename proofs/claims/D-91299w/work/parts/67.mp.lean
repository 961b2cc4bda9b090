/-! ===== the model's way ===== -/
set_option maxRecDepth 100000
theorem sF_sF {σ : st_T} {r k i : Nat} {u v : Int32} : sF_ (sF_ σ r k i u) r k i v = sF_ σ r k i v := by
  unfold sF_
  congr 1
  funext r' k' i'
  by_cases h : r' = r ∧ k' = k ∧ i' = i
  · simp only [if_pos h]
  · simp only [if_neg h]
theorem gF_s {σ : st_T} {r k i : Nat} {v : Int32} : gF_ (sF_ σ r k i v) r k i = v := by rw [gF_sF, if_pos ⟨rfl, rfl, rfl⟩]
theorem gF_nr {σ : st_T} {r k i r' k' i' : Nat} {v : Int32} (h : r' ≠ r) : gF_ (sF_ σ r k i v) r' k' i' = gF_ σ r' k' i' := by rw [gF_sF, if_neg (fun q => h q.1)]
theorem gF_nk {σ : st_T} {r k i r' k' i' : Nat} {v : Int32} (h : k' ≠ k) : gF_ (sF_ σ r k i v) r' k' i' = gF_ σ r' k' i' := by rw [gF_sF, if_neg (fun q => h q.2.1)]
abbrev mp (σ : st_T) (f g : ar_T) (v : Int32) : st_T := sF_ (sA_ (sA_ σ 157 0 f) 158 0 g) 109 49 0 v
theorem mp_f {σ : st_T} {f g : ar_T} {v : Int32} : gA_ (mp σ f g v) 157 0 = f := by rw [gA_sF, gA_ne (by decide), gA_same]
theorem mp_g {σ : st_T} {f g : ar_T} {v : Int32} : gA_ (mp σ f g v) 158 0 = g := by rw [gA_sF, gA_same]
theorem mp_o {σ : st_T} {f g : ar_T} {v : Int32} {r i : Nat} (h1 : r ≠ 157) (h2 : r ≠ 158) : gA_ (mp σ f g v) r i = gA_ σ r i := by rw [gA_sF, gA_ne h2, gA_ne h1]
theorem mp_v {σ : st_T} {f g : ar_T} {v : Int32} : gF_ (mp σ f g v) 109 49 0 = v := gF_s
theorem mp_k {σ : st_T} {f g : ar_T} {v : Int32} {k : Nat} (h : k ≠ 49) : gF_ (mp σ f g v) 109 k 0 = gF_ σ 109 k 0 := by rw [gF_nk h, gF_sA, gF_sA]
theorem mp_uf {σ : st_T} {f g : ar_T} {v x : Int32} {j : Nat} : sE_ (mp σ f g v) 157 0 j x = mp σ (upd f j x) g v := by
  rw [sE_sA, mp_f]
  show sF_ (sA_ (sA_ (sA_ σ 157 0 f) 158 0 g) 157 0 (upd f j x)) 109 49 0 v = _
  rw [sA_cm (r := 158) (by decide), sA_sA]
theorem mp_ug {σ : st_T} {f g : ar_T} {v x : Int32} {j : Nat} : sE_ (mp σ f g v) 158 0 j x = mp σ f (upd g j x) v := by
  rw [sE_sA, mp_g]
  show sF_ (sA_ (sA_ (sA_ σ 157 0 f) 158 0 g) 158 0 (upd g j x)) 109 49 0 v = _
  rw [sA_sA]
theorem mp_uv {σ : st_T} {f g : ar_T} {v x : Int32} : sF_ (mp σ f g v) 109 49 0 x = mp σ f g x := sF_sF
theorem mp_step {σ : st_T} {f g : ar_T} {v : Int32} {c n : Nat} (hc : c < 64) (ha : adj c n) : m_X10_stepCost (mp σ f g v) (I_ c) (I_ n) = some ((gF_ σ 109 23 0 + gA_ σ 154 0 (eix c n)) + gA_ σ 155 0 n) := by
  rw [X10_step hc ha, mp_k (by decide), mp_o (by decide) (by decide), mp_o (by decide) (by decide)]
/-- an edge back from the neighbour by way q is relaxed -/
def RB (op : Nat → Prop) (w : Nat → Nat → Int) (t : Nat) (c q : Nat) (f : ar_T) : Prop := nb c q < 64 → (f (nb c q)).toInt < FAR_ → op c → c ≠ t → (f c).toInt ≤ (f (nb c q)).toInt + w c (nb c q)
theorem RB.all {op : Nat → Prop} {w : Nat → Nat → Int} {t : Nat} {f : ar_T} (h : ∀ c, c < 64 → ∀ q, q < 4 → RB op w t c q f) : ∀ c, c < 64 → ∀ q, q < 4 → RK op (bwd w) t c q f := by
  intro c hc q hq h1 h2 h3 h4
  obtain ⟨-, q', hq', e⟩ := adj_symm hc (adj_nb hq h2)
  have k := h _ h2 q' hq'
  unfold RB at k
  rw [e] at k
  exact k hc h1 h3 h4
theorem X10_path_pass {σ : st_T} (hsc : scM σ) {t : Nat} (ht : t < 64) (g0 gg : ar_T) (x1 x2 v : Int32) (kk : st_T → Int32 → Int32 → Int32 → Option st_T) (f : ar_T) (hJ : JK (opM σ) (bwd (wM σ)) t 0 g0 f) :
    ∃ f' x', m_X10_findPath_L57 kk fu_ (mp σ f gg v) x1 x2 0 (I_ 0) = kk (mp σ f' gg v) x1 x2 x' ∧ JK (opM σ) (bwd (wM σ)) t 0 g0 f' ∧ ((x' = 0 ∧ f' = f ∧ ∀ c, c < 64 → ∀ w, w < 4 → RB (opM σ) (wM σ) t c w f) ∨ (x' = 1 ∧ muK f' < muK f)) := by
  refine pass_ (opM σ) (R := fun c w f => RB (opM σ) (wM σ) t c w f) (J := JK (opM σ) (bwd (wM σ)) t 0 g0) (mu := muK)
    (lc := fun n f x c => m_X10_findPath_L57 kk n (mp σ f gg v) x1 x2 x (I_ c))
    (lw := fun n m f x c w => m_X10_findPath_L81 (m_X10_findPath_L175 (m_X10_findPath_L57 kk n)) m (mp σ f gg v) x1 x2 x (I_ c) (I_ w))
    (k := fun f x => kk (mp σ f gg v) x1 x2 x) ?_ ?_ ?_ ?_ f hJ
  · intro n f x
    show m_X10_findPath_L57 kk (n + 1) _ _ _ _ _ = _
    rw [m_X10_findPath_L57, if_pos ((le_64 (by omega)).mpr (Nat.le_refl _))]
  · intro n f x c hc hJ
    show (m_X10_findPath_L57 kk (n + 1) _ _ _ _ _ = _ ∧ _) ∨ (m_X10_findPath_L57 kk (n + 1) _ _ _ _ _ = _ ∧ _)
    rw [m_X10_findPath_L57, if_neg (fun q => absurd ((le_64 (by omega)).mp q) (by omega)), if_pos ((I_inb (by omega)).mpr hc), I_nat (by omega), mp_o (by decide) (by decide)]
    by_cases hF : gA_ σ 112 0 c = 1
    · exact Or.inl ⟨by rw [if_pos hF]; unfold m_X10_findPath_L175; rw [I_one], fun w _ _ _ h => absurd hF h⟩
    · exact Or.inr ⟨by rw [if_neg hF]; rfl, hF⟩
  · intro n m f x c hc
    show m_X10_findPath_L81 _ (m + 1) _ _ _ _ _ _ = _
    rw [m_X10_findPath_L81, if_pos ((le_4 (by omega)).mpr (Nat.le_refl _))]
    unfold m_X10_findPath_L175
    rw [I_one]
  · intro n m f x c w hc hw hop hJ
    show (m_X10_findPath_L81 _ (m + 1) _ _ _ _ _ _ = _ ∧ _) ∨ ∃ f', m_X10_findPath_L81 _ (m + 1) _ _ _ _ _ _ = _ ∧ _
    rw [m_X10_findPath_L81, if_neg (fun q => absurd ((le_4 (by omega)).mp q) (by omega)), X10_nb hc hw, Option.bind_some]
    unfold m_X10_findPath_L169
    rw [I_one]
    by_cases h64 : nb c w = 64
    · exact Or.inl ⟨by rw [if_pos h64, if_pos rfl], fun h => by omega⟩
    · have hn : nb c w < 64 := by have := nb_le c w hc hw; omega
      have ha := adj_nb hw hn
      rw [if_neg h64, if_neg (I_neg (by omega)), if_pos ((I_inb (by omega)).mpr hn), I_nat (by omega), mp_f]
      by_cases hF : f (nb c w) = (1000000000 : Int32)
      · refine Or.inl ⟨by rw [if_pos hF], fun _ h => ?_⟩
        rw [far_eq] at hF
        omega
      · rw [if_neg hF, mp_step hc ha, Option.bind_some, if_pos ((I_inb (by omega)).mpr hc), I_nat (by omega)]
        have hF9 : FAR_ = 1000000000 := rfl
        have hst := step_int hsc hc ha
        have hw1 := wP_adj hsc hc ha
        have hfn := hJ.far hn
        have hsum : (f (nb c w) + (gF_ σ 109 23 0 + gA_ σ 154 0 (eix c (nb c w)) + gA_ σ 155 0 (nb c w))).toInt = (f (nb c w)).toInt + wM σ c (nb c w) := by
          rw [i_add (by rw [hst]; omega) (by rw [hst]; omega), hst]
        by_cases hlt : f (nb c w) + (gF_ σ 109 23 0 + gA_ σ 154 0 (eix c (nb c w)) + gA_ σ 155 0 (nb c w)) < f c
        · refine Or.inr ⟨upd f c (f (nb c w) + (gF_ σ 109 23 0 + gA_ σ 154 0 (eix c (nb c w)) + gA_ σ 155 0 (nb c w))), ?_, JK.relax (fun _ _ => wP_pos) ht (by omega) hJ hn (adj_symm hc ha) hop hsum (i_lt.mp hlt)⟩
          rw [if_pos hlt, Option.bind_some, lt_def, mp_uf]
        · refine Or.inl ⟨by rw [if_neg hlt], fun _ _ _ _ => ?_⟩
          rw [i_lt, hsum] at hlt
          omega
theorem X10_isOn {σ : st_T} (hsc : scM σ) {f g : ar_T} {v : Int32} {c q : Nat} (hc : c < 64) (hq : q < 4) (hf : ∀ c, c < 64 → 0 ≤ (f c).toInt ∧ (f c).toInt ≤ FAR_) :
    (okq (toI f) (wM σ) c q → m_X10_isOn (mp σ f g v) (I_ c) (if nb c q = 64 then (-1 : Int32) else I_ (nb c q)) = some 1) ∧ (¬ okq (toI f) (wM σ) c q → m_X10_isOn (mp σ f g v) (I_ c) (if nb c q = 64 then (-1 : Int32) else I_ (nb c q)) = some 0) := by
  unfold m_X10_isOn m_X10_isOn_L43 m_X10_isOn_L44
  rw [if_pos (Or.inl rfl), if_pos (Or.inr rfl)]
  by_cases h64 : nb c q = 64
  · rw [if_pos h64, if_pos rfl]
    exact ⟨fun h => by have := h.1; omega, fun _ => rfl⟩
  · have hn : nb c q < 64 := by have := nb_le c q hc hq; omega
    have ha := adj_nb hq hn
    rw [if_neg h64, if_neg (I_neg (by omega)), if_pos ((I_inb (by omega)).mpr hn), mp_f, I_nat (by omega)]
    by_cases hF : f (nb c q) = (1000000000 : Int32)
    · rw [if_pos hF]
      rw [far_eq] at hF
      refine ⟨fun h => ?_, fun _ => rfl⟩
      have h2 : (f (nb c q)).toInt < FAR_ := h.2.1
      omega
    · rw [if_neg hF, if_pos ((I_inb (by omega)).mpr hc), mp_step hc ha, Option.bind_some, I_nat (by omega)]
      have hF9 : FAR_ = 1000000000 := rfl
      have hst := step_int hsc hc ha
      have hw1 := wP_adj hsc hc ha
      have hfn := hf _ hn
      rw [far_eq] at hF
      have hsum : (f (nb c q) + (gF_ σ 109 23 0 + gA_ σ 154 0 (eix c (nb c q)) + gA_ σ 155 0 (nb c q))).toInt = (f (nb c q)).toInt + wM σ c (nb c q) := by
        rw [i_add (by rw [hst]; omega) (by rw [hst]; omega), hst]
      by_cases he : f c = f (nb c q) + (gF_ σ 109 23 0 + gA_ σ 154 0 (eix c (nb c q)) + gA_ σ 155 0 (nb c q))
      · rw [if_pos he]
        refine ⟨fun _ => rfl, fun h => absurd ⟨hn, ?_, ?_⟩ h⟩
        · show (f (nb c q)).toInt < FAR_
          omega
        · show (f c).toInt = _
          rw [he, hsum]
      · rw [if_neg he]
        refine ⟨fun h => absurd ?_ he, fun _ => rfl⟩
        rw [i_eq, hsum]
        exact h.2.2
theorem X10_path_next {σ : st_T} (hsc : scM σ) {f g : ar_T} {v x2 : Int32} {c k : Nat} (kk : st_T → Int32 → Int32 → Option st_T) (hc : c < 64) (hk : k < 64) (hv : v = I_ k) (hf : ∀ c, c < 64 → 0 ≤ (f c).toInt ∧ (f c).toInt ≤ FAR_) (h : ∃ q, q < 4 ∧ okq (toI f) (wM σ) c q ∧ ∀ q', q' < q → ¬ okq (toI f) (wM σ) c q') :
    ∃ n, isNx (toI f) (wM σ) c n ∧ n < 64 ∧ (f n).toInt < (f c).toInt ∧ (f n).toInt < FAR_ ∧ m_X10_findPath_L222 kk fu_ (mp σ f g v) x2 (I_ c) (I_ 0) = kk (mp σ f (upd g k (I_ n)) (I_ (k + 1))) x2 (I_ n) := by
  obtain ⟨q, hq, hok, hno⟩ := h
  have hn := hok.1
  have hw2 : 0 < wM σ c (nb c q) := wP_pos
  refine ⟨nb c q, ⟨q, hq, rfl, hok, hno⟩, hn, ?_, hok.2.1, ?_⟩
  · have e : (f c).toInt = (f (nb c q)).toInt + wM σ c (nb c q) := hok.2.2
    omega
  · have hn64 : ¬ nb c q = 64 := by omega
    obtain ⟨-, e, -⟩ := upto (N := q) (S := Unit) (lp := fun n _ q => m_X10_findPath_L222 kk n (mp σ f g v) x2 (I_ c) (I_ q)) (k := fun _ => kk (mp σ f (upd g k (I_ (nb c q))) (I_ (k + 1))) x2 (I_ (nb c q))) (inv := fun _ _ => True)
      (fun n _ _ => by
        show m_X10_findPath_L222 kk (n + 1) _ _ _ _ = _
        rw [m_X10_findPath_L222, X10_nb hc hq, Option.bind_some, (X10_isOn hsc hc hq hf).1 hok, Option.bind_some, if_neg (by decide), Option.bind_some, if_neg hn64, mp_v, hv, if_pos ((I_inb (by omega)).mpr hk), lt_def, lt_def, I_nat (by omega), mp_ug, mp_v, I_one, mp_uv])
      (fun q' n _ hq' _ => by
        refine ⟨(), ?_, trivial⟩
        show m_X10_findPath_L222 kk (n + 1) _ _ _ _ = _
        rw [m_X10_findPath_L222, X10_nb hc (by omega), Option.bind_some, (X10_isOn hsc hc (by omega) hf).2 (hno q' hq'), Option.bind_some, if_pos rfl, I_one])
      0 fu_ () (by omega) (fu_big (by omega)) trivial
    exact e
theorem X10_path_run {σ : st_T} (hsc : scM σ) {f : ar_T} {t : Nat} (hLC : LC (opM σ) (bwd (wM σ)) t 0 (toI f)) (ht : t < 64) (g0 : ar_T) : ∀ (r n c k : Nat) (p : Nat → Nat) (g : ar_T), rnk (toI f) c ≤ r → r + 1 < n → c < 64 → (f c).toInt < FAR_ → k + rnk (toI f) c ≤ 63 → p k = c → (∀ j, j ≤ k → p j < 64) → (∀ j, j < k → p j ≠ t ∧ isNx (toI f) (wM σ) (p j) (p (j + 1))) → (∀ j, j ≤ k → g j = I_ (p j)) → (∀ j, 64 ≤ j → g j = g0 j) →
    ∃ p' L g', m_X10_findPath_L213 n (mp σ f g (I_ (k + 1))) (I_ t) (I_ c) = some (mp σ f g' (I_ L)) ∧ PathR (toI f) (wM σ) (p 0) t p' L ∧ (∀ j, j < L → g' j = I_ (p' j)) ∧ ∀ j, 64 ≤ j → g' j = g0 j := by
  have hf : ∀ c, c < 64 → 0 ≤ (f c).toInt ∧ (f c).toInt ≤ FAR_ := hLC.2.1
  intro r
  induction r with
  | zero =>
    intro n c k p g h1 h2 hc hcF h3 hpk hp64 hp hg hg0
    cases n with
    | zero => omega
    | succ n =>
      rw [m_X10_findPath_L213]
      by_cases hct : c = t
      · rw [hct, if_pos rfl]
        exact ⟨p, k + 1, g, rfl, ⟨rfl, by omega, by omega, by rw [show k + 1 - 1 = k by omega, hpk, hct], fun j hj => hp64 j (by omega), fun j hj => hp j (by omega)⟩, fun j hj => hg j (by omega), hg0⟩
      · exfalso
        obtain ⟨q, hq, hok, -⟩ := LC_next hLC hc hct hcF
        have hn := hok.1
        have hw2 : 0 < wM σ c (nb c q) := wP_pos
        have e : toI f c = toI f (nb c q) + wM σ c (nb c q) := hok.2.2
        have := rnk_lt (f := toI f) (c := c) hn (by omega)
        omega
  | succ r ih =>
    intro n c k p g h1 h2 hc hcF h3 hpk hp64 hp hg hg0
    cases n with
    | zero => omega
    | succ n =>
      rw [m_X10_findPath_L213]
      by_cases hct : c = t
      · rw [hct, if_pos rfl]
        exact ⟨p, k + 1, g, rfl, ⟨rfl, by omega, by omega, by rw [show k + 1 - 1 = k by omega, hpk, hct], fun j hj => hp64 j (by omega), fun j hj => hp j (by omega)⟩, fun j hj => hg j (by omega), hg0⟩
      · rw [if_neg (fun z => hct ((I_inj (by omega) (by omega)).mp z))]
        obtain ⟨q, hq, hok, hno⟩ := LC_next hLC hc hct hcF
        have hw2 : 0 < wM σ c (nb c q) := wP_pos
        have hlt0 : toI f (nb c q) < toI f c := by have e : toI f c = toI f (nb c q) + wM σ c (nb c q) := hok.2.2; omega
        have hr0 := rnk_lt (f := toI f) hok.1 hlt0
        have hk1 : k + 1 < 64 := by omega
        obtain ⟨m, hnx, hm, hlt, hmF, e⟩ := X10_path_next (g := g) (x2 := I_ t) hsc (m_X10_findPath_L213 n) hc hk1 rfl hf ⟨q, hq, hok, hno⟩
        have e' : m_X10_findPath_L222 (m_X10_findPath_L213 n) fu_ (mp σ f g (I_ (k + 1))) (I_ t) (I_ c) 0 = _ := e
        rw [e']
        have hr := rnk_lt (f := toI f) hm hlt
        obtain ⟨p', L, g', e2, hP, hg2, hg3⟩ := ih n m (k + 1) (fun j => if j = k + 1 then m else p j) (upd g (k + 1) (I_ m)) (by omega) (by omega) hm hmF (by omega) (by show (if k + 1 = k + 1 then m else p (k + 1)) = m; rw [if_pos rfl])
          (fun j hj => by
            show (if j = k + 1 then m else p j) < 64
            by_cases z : j = k + 1
            · rw [if_pos z]; exact hm
            · rw [if_neg z]; exact hp64 j (by omega))
          (fun j hj => by
            show (if j = k + 1 then m else p j) ≠ t ∧ isNx (toI f) (wM σ) (if j = k + 1 then m else p j) (if j + 1 = k + 1 then m else p (j + 1))
            rw [if_neg (by omega)]
            by_cases z : j = k
            · rw [if_pos (by omega), z, hpk]; exact ⟨hct, hnx⟩
            · rw [if_neg (by omega)]; exact hp j (by omega))
          (fun j hj => by
            show upd g (k + 1) (I_ m) j = I_ (if j = k + 1 then m else p j)
            by_cases z : j = k + 1
            · rw [if_pos z, z, upd_s]
            · rw [if_neg z, upd_n z]; exact hg j (by omega))
          (fun j hj => by rw [upd_n (by omega)]; exact hg0 j hj)
        rw [if_neg (by omega)] at hP
        exact ⟨p', L, g', e2, hP, hg2, hg3⟩
theorem X10_findPath {σ : st_T} (hsc : scM σ) {h t : Nat} (hh : h < 64) (ht : t < 64) : ∃ f g p L, m_X10_findPath σ (I_ h) (I_ t) = some (mp σ f g (I_ L)) ∧ PS (opM σ) (wM σ) h t (p, L) ∧ (∀ j, j < L → g j = I_ (p j)) ∧ (∀ j, 64 ≤ j → f j = gA_ σ 157 0 j) ∧ ∀ j, 64 ≤ j → g j = gA_ σ 158 0 j := by
  obtain ⟨σ', e, hσ⟩ := upto (N := 64) (lp := fun n (σ' : st_T) c => m_X10_findPath_L2 n σ' (I_ h) (I_ t) (I_ c))
    (k := fun σ' => if gA_ σ' 112 0 t = 1 then some (sF_ σ' 109 49 0 0) else m_X10_findPath_L48 fu_ (sE_ (sF_ σ' 109 49 0 0) 157 0 t 0) (I_ h) (I_ t) 1)
    (inv := fun c σ' => σ' = sA_ σ 157 0 (fil c (fun _ => 1000000000) (gA_ σ 157 0)))
    (fun n σ' _ => by
      show m_X10_findPath_L2 (n + 1) _ _ _ _ = _
      rw [m_X10_findPath_L2, if_pos ((le_64 (by omega)).mpr (Nat.le_refl _)), lt_def, if_pos ((I_inb (by omega)).mpr ht), I_nat (by omega), lt_def]
      rfl)
    (fun c n σ' hc hi => by
      refine ⟨sE_ σ' 157 0 c 1000000000, ?_, ?_⟩
      · show m_X10_findPath_L2 (n + 1) _ _ _ _ = _
        rw [m_X10_findPath_L2, if_neg (fun q => absurd ((le_64 (by omega)).mp q) (by omega)), if_pos ((I_inb (by omega)).mpr hc), I_nat (by omega), lt_def, I_one]
      · rw [hi, sE_up, fil_s (v := fun _ => 1000000000)])
    0 fu_ σ (by omega) (fu_big (by omega)) (by rw [fil_0, sA_id])
  have e : m_X10_findPath σ (I_ h) (I_ t) = _ := e
  have hmp : sF_ σ' 109 49 0 0 = mp σ (fil 64 (fun _ => 1000000000) (gA_ σ 157 0)) (gA_ σ 158 0) 0 := by
    rw [hσ]
    show _ = sF_ (sA_ _ 158 0 (gA_ σ 158 0)) 109 49 0 0
    have : gA_ (sA_ σ 157 0 (fil 64 (fun _ => 1000000000) (gA_ σ 157 0))) 158 0 = gA_ σ 158 0 := gA_ne (by decide)
    rw [← this, sA_id]
  rw [e, hmp, show gA_ σ' 112 0 t = gA_ σ 112 0 t by rw [hσ, gA_ne (by decide)]]
  by_cases hk : gA_ σ 112 0 t = 1
  · rw [if_pos hk]
    exact ⟨_, _, fun _ => 0, 0, rfl, Or.inl ⟨rfl, Or.inl (fun z => z hk)⟩, fun j hj => by omega, fun j hj => fil_ge hj, fun j _ => rfl⟩
  · rw [if_neg hk, mp_uf]
    have hJ0 : JK (opM σ) (bwd (wM σ)) t 0 (gA_ σ 157 0) (upd (fil 64 (fun _ => 1000000000) (gA_ σ 157 0)) t 0) := by
      refine ⟨LJ.start (by decide) ?_ fun c hc hcs => ?_, fun j hj => ?_⟩
      · show (upd _ t 0 t).toInt = 0
        rw [upd_s]; rfl
      · show (upd _ t 0 c).toInt = _
        rw [upd_n hcs, fil_at hc, far_int]
      · rw [upd_n (by omega), fil_ge hj]
    obtain ⟨f', e2, hJ', hR⟩ := fix_ (R := fun c w f => RB (opM σ) (wM σ) t c w f) (J := JK (opM σ) (bwd (wM σ)) t 0 (gA_ σ 157 0)) (mu := muK)
      (lo := fun n f x => m_X10_findPath_L48 n (mp σ f (gA_ σ 158 0) 0) (I_ h) (I_ t) x)
      (fin := fun f => if f h = (1000000000 : Int32) then some (mp σ f (gA_ σ 158 0) 0) else m_X10_findPath_L213 fu_ (mp σ f (upd (gA_ σ 158 0) 0 (I_ h)) (I_ 1)) (I_ t) (I_ h))
      (fun n f => by
        show m_X10_findPath_L48 (n + 1) _ _ _ _ = _
        rw [m_X10_findPath_L48, if_pos rfl, if_pos ((I_inb (by omega)).mpr hh), mp_f, I_nat (by omega), lt_def, lt_def]
        have z : (0 : Int32).toNatClampNeg = 0 := rfl
        rw [z, mp_ug, mp_uv]
        rfl)
      (fun n f hJ => by
        show ∃ f' x', m_X10_findPath_L48 (n + 1) _ _ _ _ = _ ∧ _
        rw [m_X10_findPath_L48, if_neg (by decide)]
        exact X10_path_pass hsc ht (gA_ σ 157 0) (gA_ σ 158 0) (I_ h) (I_ t) 0 (m_X10_findPath_L48 n) f hJ)
      fu_ _ hJ0 (by
        have := muK_hi (f := upd (fil 64 (fun _ => 1000000000) (gA_ σ 157 0)) t 0) (fun c hc => (hJ0.far hc).2)
        have h9 : fu_ = 1000000000000 := rfl
        omega)
    have hLC := hJ'.LC (RB.all hR)
    have hd := dis_eq (fun c n _ _ => wP_pos) hLC
    have e2' : m_X10_findPath_L48 fu_ (mp σ (upd (fil 64 (fun _ => 1000000000) (gA_ σ 157 0)) t 0) (gA_ σ 158 0) 0) (I_ h) (I_ t) 1 = _ := e2
    rw [e2']
    by_cases hF : f' h = (1000000000 : Int32)
    · rw [if_pos hF]
      rw [far_eq] at hF
      exact ⟨f', _, fun _ => 0, 0, rfl, Or.inl ⟨rfl, Or.inr (by rw [← hd h hh]; exact hF)⟩, fun j hj => by omega, hJ'.2, fun j _ => rfl⟩
    · rw [if_neg hF]
      rw [far_eq] at hF
      have hhF := (hJ'.far hh).2
      obtain ⟨p, L, g', e3, hP, h4, h5⟩ := X10_path_run hsc hLC ht (gA_ σ 158 0) 63 fu_ h 0 (fun _ => h) (upd (gA_ σ 158 0) 0 (I_ h)) (rnk_hi hh) (fu_big (by omega)) hh (by omega) (by have := rnk_hi (f := toI f') hh; omega) rfl (fun _ _ => hh) (fun j hj => by omega) (fun j hj => by rw [show j = 0 by omega, upd_s]) (fun j hj => by rw [upd_n (by omega)])
      refine ⟨f', g', p, L, e3, Or.inr ⟨hk, by rw [← hd h hh]; show (f' h).toInt < FAR_; omega, PathR_f hd hP⟩, h4, hJ'.2, h5⟩

