/-! ===== the component's costs ===== -/
set_option maxRecDepth 100000
theorem X1_nb {c w : Nat} (hc : c < 64) (hw : w < 4) : m_X1_next (I_ c) (I_ w) = some (if nb c w = 64 then (-1 : Int32) else I_ (nb c w)) := by
  have key : ∀ c : Fin 64, ∀ w : Fin 4, m_X1_next (I_ c.val) (I_ w.val) = some (if nb c.val w.val = 64 then (-1 : Int32) else I_ (nb c.val w.val)) := by decide +kernel
  exact key ⟨c, hc⟩ ⟨w, hw⟩
/-- the fences of a land in one row, as the model has them -/
def fnC (σ : st_T) (i : Nat) : ar_T := fun e => if e % 2 = 0 then gA_ σ 56 i (e / 2) else gA_ σ 57 i (e / 2)
theorem adj_abs {a b : Nat} (ha : a < 64) (h : adj a b) : (iabs (I_ a - I_ b) = 1 ↔ ¬ (a + 8 = b ∨ b + 8 = a)) ∧ imin (I_ a) (I_ b) = I_ (min a b) := by
  obtain ⟨hn, w, hw, e⟩ := h
  subst e
  have key : ∀ c : Fin 64, ∀ w : Fin 4, nb c.val w.val < 64 → (iabs (I_ c.val - I_ (nb c.val w.val)) = 1 ↔ ¬ (c.val + 8 = nb c.val w.val ∨ nb c.val w.val + 8 = c.val)) ∧ imin (I_ c.val) (I_ (nb c.val w.val)) = I_ (min c.val (nb c.val w.val)) := by decide +kernel
  exact key ⟨a, ha⟩ ⟨w, hw⟩ hn
/-- the lands stand -/
def lnd (σ : st_T) : Prop := gN_ σ 56 = 3 ∧ gN_ σ 57 = 3 ∧ gN_ σ 58 = 3 ∧ gN_ σ 59 = 3
theorem X2_fence {σ : st_T} {i a b : Nat} (hl : lnd σ) (hi : i < 3) (ha : a < 64) (h : adj a b) : m_X2_fence σ i (I_ a) (I_ b) = some (fnC σ i (eix a b)) := by
  obtain ⟨h1, h2⟩ := adj_abs ha h
  have hb := h.1
  have hm : min a b < 64 := by omega
  unfold m_X2_fence m_X2_fence_L21
  rw [h2, if_pos hi, if_pos hi]
  by_cases q : a + 8 = b ∨ b + 8 = a
  · rw [if_neg (fun z => h1.mp z q), if_pos ⟨rfl, by show i < 1 * gN_ σ 57; rw [hl.2.1]; omega⟩, if_pos ((I_inb (by omega)).mpr hm), I_nat (by omega)]
    unfold fnC eix
    rw [if_pos q, if_neg (by omega), show (2 * min a b + 1) / 2 = min a b by omega]
  · rw [if_pos (h1.mpr q), if_pos ⟨rfl, by show i < 1 * gN_ σ 56; rw [hl.1]; omega⟩, if_pos ((I_inb (by omega)).mpr hm), I_nat (by omega)]
    unfold fnC eix
    rw [if_neg q, if_pos (by omega), show (2 * min a b + 0) / 2 = min a b by omega]
theorem X2_step {σ : st_T} {i a b : Nat} {st : Int32} (hl : lnd σ) (hi : i < 3) (ha : a < 64) (h : adj a b) : m_X2_step σ i (I_ a) (I_ b) st = some ((st + fnC σ i (eix a b)) + gA_ σ 55 i b) := by
  unfold m_X2_step
  rw [X2_fence hl hi ha h, Option.bind_some, if_pos hi, if_pos ((I_inb (by have := h.1; omega)).mpr h.1), I_nat (by have := h.1; omega)]
theorem X2_open {σ : st_T} {i n : Nat} (hi : i < 3) (hn : n < 64) : m_X2_isOpen σ i (I_ n) = some (if gA_ σ 51 i n = 1 then 0 else 1) := by
  unfold m_X2_isOpen m_X2_isOpen_L19 m_X2_isOpen_L20
  rw [if_neg (I_neg (by omega)), if_pos hi, if_pos ((I_inb (by omega)).mpr hn), I_nat (by omega), if_pos (Or.inl rfl), if_pos (Or.inr rfl)]
  by_cases h : gA_ σ 51 i n = 1
  · rw [if_pos h, if_pos h]
  · rw [if_neg h, if_neg h]
theorem X2_openN {σ : st_T} {i : Nat} : m_X2_isOpen σ i (-1 : Int32) = some 0 := by
  unfold m_X2_isOpen m_X2_isOpen_L19 m_X2_isOpen_L20
  rw [if_pos rfl, if_pos (Or.inl rfl)]
theorem upd_id {f : ar_T} {n : Nat} {v : Int32} (h : f n = v) : upd f n v = f := by
  funext j
  by_cases q : j = n
  · rw [q, upd_s, h]
  · rw [upd_n q]
theorem nar_1 : vp_nar .boolean (1 : Int32) = 1 := rfl
theorem nar_0 : vp_nar .boolean (0 : Int32) = 0 := rfl
/-- the ways' rows -/
abbrev wy (σ : st_T) (f d : ar_T) : st_T := sA_ (sA_ σ 61 0 f) 63 0 d
theorem wy_61 {σ : st_T} {f d : ar_T} : gA_ (wy σ f d) 61 0 = f := by rw [gA_ne (by decide), gA_same]
theorem wy_63 {σ : st_T} {f d : ar_T} : gA_ (wy σ f d) 63 0 = d := gA_same
theorem wy_u61 {σ : st_T} {f d : ar_T} {j : Nat} {v : Int32} : sE_ (wy σ f d) 61 0 j v = wy σ (upd f j v) d := by
  rw [sE_sA, wy_61, sA_cm (by decide), sA_sA]
theorem wy_u63 {σ : st_T} {f d : ar_T} {j : Nat} {v : Int32} : sE_ (wy σ f d) 63 0 j v = wy σ f (upd d j v) := sE_up
theorem wy_o {σ : st_T} {f d : ar_T} {r i : Nat} (h1 : r ≠ 61) (h2 : r ≠ 63) : gA_ (wy σ f d) r i = gA_ σ r i := by rw [gA_ne h2, gA_ne h1]
theorem X3_nearest {σ : st_T} {f d : ar_T} (hlo : ∀ c, c < 64 → 0 ≤ (f c).toInt) : ∃ v, m_X3_nearest (wy σ f d) = some v ∧ ((v = -1 ∧ ∀ k, k < 64 → d k = 0 → FAR_ ≤ (f k).toInt) ∨ ∃ c, c < 64 ∧ v = I_ c ∧ d c = 0 ∧ (f c).toInt < FAR_ ∧ ∀ k, k < 64 → d k = 0 → (f c).toInt ≤ (f k).toInt) := by
  unfold m_X3_nearest
  obtain ⟨v, e, h⟩ := upto (N := 64) (lp := fun n (v : Int32) c => m_X3_nearest_L4 n (wy σ f d) v (I_ c)) (k := fun v => some v)
    (inv := fun c v => (v = -1 ∧ ∀ k, k < c → d k = 0 → FAR_ ≤ (f k).toInt) ∨ ∃ b, b < 64 ∧ v = I_ b ∧ d b = 0 ∧ (f b).toInt < FAR_ ∧ ∀ k, k < c → d k = 0 → (f b).toInt ≤ (f k).toInt)
    (fun n v _ => by show m_X3_nearest_L4 (n + 1) _ _ _ = _; rw [m_X3_nearest_L4, if_pos ((le_64 (by omega)).mpr (Nat.le_refl _))])
    (fun c n v hc hi => by
      show ∃ v', m_X3_nearest_L4 (n + 1) _ _ _ = _ ∧ _
      rw [m_X3_nearest_L4, if_neg (fun q => absurd ((le_64 (by omega)).mp q) (by omega)), if_pos ((I_inb (by omega)).mpr hc), I_nat (by omega), wy_63, wy_61]
      unfold m_X3_nearest_L50 m_X3_nearest_L52
      rw [I_one]
      have lift : ∀ {P : Nat → Prop}, (∀ k, k < c → P k) → P c → ∀ k, k < c + 1 → P k := fun h1 h2 k hk => by
        by_cases e : k = c
        · rw [e]; exact h2
        · exact h1 k (by omega)
      by_cases hd : d c = 0
      · rw [if_pos hd]
        by_cases hF : (1000000000 : Int32) ≤ f c
        · rw [if_pos hF]
          rw [i_le, far_int] at hF
          refine ⟨v, rfl, ?_⟩
          rcases hi with ⟨h1, h2⟩ | ⟨b, h1, h2, h3, h4, h5⟩
          · exact Or.inl ⟨h1, lift h2 (fun _ => hF)⟩
          · exact Or.inr ⟨b, h1, h2, h3, h4, lift h5 (fun _ => by omega)⟩
        · rw [if_neg hF]
          rw [i_le, far_int] at hF
          rcases hi with ⟨h1, h2⟩ | ⟨b, h1, h2, h3, h4, h5⟩
          · rw [if_pos h1]
            refine ⟨I_ c, rfl, Or.inr ⟨c, hc, rfl, hd, by omega, lift (fun k hk hdk => ?_) (fun _ => Int.le_refl _)⟩⟩
            have := h2 k hk hdk
            omega
          · rw [h2, if_neg (I_neg (by omega)), if_pos ((I_inb (by omega)).mpr h1), I_nat (by omega)]
            by_cases hle : f b ≤ f c
            · rw [if_pos hle]
              exact ⟨I_ b, rfl, Or.inr ⟨b, h1, rfl, h3, h4, lift h5 (fun _ => i_le.mp hle)⟩⟩
            · rw [if_neg hle]
              rw [i_le] at hle
              refine ⟨I_ c, rfl, Or.inr ⟨c, hc, rfl, hd, by omega, lift (fun k hk hdk => ?_) (fun _ => Int.le_refl _)⟩⟩
              have := h5 k hk hdk
              omega
      · rw [if_neg hd]
        refine ⟨v, rfl, ?_⟩
        rcases hi with ⟨h1, h2⟩ | ⟨b, h1, h2, h3, h4, h5⟩
        · exact Or.inl ⟨h1, lift h2 (fun q => absurd q hd)⟩
        · exact Or.inr ⟨b, h1, h2, h3, h4, lift h5 (fun q => absurd q hd)⟩)
    0 fu_ (-1 : Int32) (by omega) (fu_big (by omega)) (Or.inl ⟨rfl, fun k hk => by omega⟩)
  exact ⟨v, e, h⟩
/-- what holds of the costs while the nearest are done one by one -/
def DJ (op : Nat → Prop) (w : Nat → Nat → Int) (s : Nat) (g gd : ar_T) (f d : ar_T) : Prop :=
  JK op w s 0 g f ∧ (∀ c, c < 64 → d c = 0 ∨ d c = 1) ∧ (∀ c, c < 64 → d c = 1 → (f c).toInt < FAR_) ∧ (∀ c u, c < 64 → u < 64 → d c = 1 → d u = 0 → (f c).toInt ≤ (f u).toInt) ∧
  (∀ c, c < 64 → d c = 1 → ∀ q, q < 4 → RK op w s c q f) ∧ ∀ j, 64 ≤ j → d j = gd j
/-- how many are not done -/
def cntD (d : ar_T) : Nat := (sumN 64 (fun k => if d k = 0 then 1 else 0)).toNat
theorem cntD_upd {d : ar_T} {c : Nat} (hc : c < 64) (h : d c = 0) : cntD (upd d c 1) < cntD d := by
  obtain ⟨F, hF⟩ : ∃ F : Nat → Int, F = fun k => if d k = 0 then 1 else 0 := ⟨_, rfl⟩
  obtain ⟨G, hG⟩ : ∃ G : Nat → Int, G = fun k => if upd d c 1 k = 0 then 1 else 0 := ⟨_, rfl⟩
  have e := sumN_upd (n := 64) (k := c) (f := F) (g := G) hc (fun j _ hj => by rw [hF, hG]; show (if upd d c 1 j = 0 then (1 : Int) else 0) = _; rw [upd_n hj])
  have e1 : F c = 1 := by rw [hF]; exact if_pos h
  have e2 : G c = 0 := by rw [hG]; show (if upd d c 1 c = 0 then (1 : Int) else 0) = 0; rw [upd_s, if_neg (by decide)]
  have h1 := sumN_lo (n := 64) (f := G) (b := 0) (fun j _ => by
    rw [hG]
    show 0 ≤ (if upd d c 1 j = 0 then (1 : Int) else 0)
    by_cases q : upd d c 1 j = 0
    · rw [if_pos q]; decide
    · rw [if_neg q]; decide)
  unfold cntD
  rw [← hF, ← hG]
  omega
theorem cntD_hi (d : ar_T) : cntD d ≤ 64 := by
  have h1 := sumN_hi (n := 64) (f := fun k => if d k = 0 then (1 : Int) else 0) (b := 1) (fun j _ => by
    show (if d j = 0 then (1 : Int) else 0) ≤ 1
    by_cases q : d j = 0
    · rw [if_pos q]; decide
    · rw [if_neg q]; decide)
  unfold cntD
  omega
abbrev opC (σ : st_T) (i : Nat) : Nat → Prop := fun n => gA_ σ 51 i n ≠ 1
abbrev scC (σ : st_T) (i : Nat) (st : Int32) : Prop := scK st (fnC σ i) (gA_ σ 55 i)
/-- the costs there or back -/
noncomputable abbrev wC (σ : st_T) (i : Nat) (st bk : Int32) : Nat → Nat → Int := fun c n => if bk = 0 then wP st (fnC σ i) (gA_ σ 55 i) c n else wP st (fnC σ i) (gA_ σ 55 i) n c
theorem wC_pos {σ : st_T} {i : Nat} {st bk : Int32} (c n : Nat) : 0 < wC σ i st bk c n := by
  unfold wC
  by_cases h : bk = 0
  · rw [if_pos h]; exact wP_pos
  · rw [if_neg h]; exact wP_pos
