/-! ===== plain laws: a night on a scene ===== -/
set_option maxRecDepth 100000
def cut (n : Nat) (f : ar_T) : ar_T := fun j => if j < n then f j else 0
theorem cut_at {n j : Nat} {f : ar_T} (h : j < n) : cut n f j = f j := if_pos h
theorem cut_upd {n j : Nat} {f : ar_T} {v : Int32} (h : j < n) : cut n (upd f j v) = upd (cut n f) j v := by
  funext k
  unfold cut upd
  by_cases e : k = j
  · subst e; rw [if_pos h, if_pos rfl, if_pos rfl]
  · rw [if_neg e, if_neg e]
theorem cut_ext {n : Nat} {f g : ar_T} (h : ∀ j, j < n → f j = g j) : cut n f = cut n g := by
  funext k
  unfold cut
  by_cases e : k < n
  · rw [if_pos e, if_pos e]; exact h k e
  · rw [if_neg e, if_neg e]
theorem cut_cut {n : Nat} {f : ar_T} : cut n (cut n f) = cut n f := cut_ext fun _ h => cut_at h
theorem LC_congr {op op' : Nat → Prop} {w w' : Nat → Nat → Int} {s : Nat} {b : Int} {f : Nat → Int} (ho : ∀ n, n < 64 → (op n ↔ op' n)) (hw : ∀ c n, c < 64 → n < 64 → w c n = w' c n) (h : LC op w s b f) : LC op' w' s b f := by
  obtain ⟨h1, h2, h3, h4, h5⟩ := h
  refine ⟨h1, h2, fun n hn hns k => h3 n hn hns (fun z => k ((ho n hn).mp z)), fun c n hc hF ha k hns => ?_, fun n hn hns hF => ?_⟩
  · rw [← hw c n hc ha.1]; exact h4 c n hc hF ha ((ho n ha.1).mpr k) hns
  · obtain ⟨c, hc, ha, hcF, e⟩ := h5 n hn hns hF
    exact ⟨c, hc, ha, hcF, by rw [← hw c n hc hn]; exact e⟩
theorem dis_congr {op op' : Nat → Prop} {w w' : Nat → Nat → Int} {s : Nat} {b : Int} (ho : ∀ n, n < 64 → (op n ↔ op' n)) (hw : ∀ c n, c < 64 → n < 64 → w c n = w' c n) : dis op w s b = dis op' w' s b := by
  have e : LC op w s b = LC op' w' s b := by
    funext f
    exact propext ⟨LC_congr ho hw, LC_congr (fun n hn => (ho n hn).symm) (fun c n hc hn => (hw c n hc hn).symm)⟩
  unfold dis
  rw [e]
theorem PS_congr {op op' : Nat → Prop} {w w' : Nat → Nat → Int} {h t : Nat} {x : (Nat → Nat) × Nat} (ht : t < 64) (ho : ∀ n, n < 64 → (op n ↔ op' n)) (hw : ∀ c n, c < 64 → n < 64 → w c n = w' c n) (hx : PS op w h t x) : PS op' w' h t x := by
  have hd : dis op (bwd w) t 0 = dis op' (bwd w') t 0 := dis_congr ho (fun c n hc hn => hw n c hn hc)
  rcases hx with ⟨h1, h2⟩ | ⟨h1, h2, h3⟩
  · refine Or.inl ⟨h1, ?_⟩
    rcases h2 with h2 | h2
    · exact Or.inl (fun z => h2 ((ho t ht).mpr z))
    · exact Or.inr (by rw [← hd]; exact h2)
  · refine Or.inr ⟨(ho t ht).mp h1, by rw [← hd]; exact h2, ?_⟩
    rw [hd] at h3
    obtain ⟨a1, a2, a3, a4, a5, a6⟩ := h3
    refine ⟨a1, a2, a3, a4, a5, fun j hj => ?_⟩
    obtain ⟨b1, q, hq, b2, b3, b4⟩ := a6 j hj
    have hp := a5 j (by omega)
    have ok : ∀ q, (okq (dis op' (bwd w') t 0) w (x.1 j) q ↔ okq (dis op' (bwd w') t 0) w' (x.1 j) q) := fun q => by
      unfold okq
      constructor
      · rintro ⟨c1, c2, c3⟩; exact ⟨c1, c2, by rw [← hw _ _ hp c1]; exact c3⟩
      · rintro ⟨c1, c2, c3⟩; exact ⟨c1, c2, by rw [hw _ _ hp c1]; exact c3⟩
    exact ⟨b1, q, hq, b2, (ok q).mp b3, fun q' hq' z => b4 q' hq' ((ok q').mpr z)⟩
/-- the numbers of a board in 32 bits -/
theorem of_toI {x : Int32} : Int32.ofInt x.toInt = x := Int32.ofInt_toInt x
/-- a cell frightens -/
def frW (h : Int32) (c : Nat) : Nat → ar_T → ar_T
  | 0, E => E
  | w + 1, E => if nb c w = 64 then frW h c w E else upd (frW h c w E) (nb c w) (imin (frW h c w E (nb c w) + h) 1000)
def frS (sc : Int32) (E : ar_T) (c : Nat) : ar_T := frW (sc / 2) c 4 (upd E c (imin (E c + sc) 1000))
def frL (sc : Int32) (cells : Nat → Nat) : Nat → ar_T → ar_T
  | 0, E => E
  | k + 1, E => frS sc (frL sc cells k E) (cells k)
def wrS (wr : Int32) (E : ar_T) : ar_T := cut 64 fun c => E c * wr / 100
/-- kind, family, crop; step, scare, wear; what a crop is liked by the month; herds: how many, home, hunger -/
abbrev en_T : Type := (ar_T × ar_T × ar_T) × (Int32 × Int32 × Int32) × (Nat → Int32 → Int32) × Nat × (Nat → Nat) × (Nat → Int32)
abbrev eK (e : en_T) : ar_T := e.1.1
abbrev eF (e : en_T) : ar_T := e.1.2.1
abbrev eC (e : en_T) : ar_T := e.1.2.2
abbrev eSt (e : en_T) : Int32 := e.2.1.1
abbrev eSc (e : en_T) : Int32 := e.2.1.2.1
abbrev eWr (e : en_T) : Int32 := e.2.1.2.2
abbrev eLk (e : en_T) : Nat → Int32 → Int32 := e.2.2.1
abbrev eN (e : en_T) : Nat := e.2.2.2.1
abbrev eHo (e : en_T) : Nat → Nat := e.2.2.2.2.1
abbrev eHu (e : en_T) : Nat → Int32 := e.2.2.2.2.2
/-- stalks, fear, fences, losses, what all lost -/
abbrev sn_T : Type := ar_T × ar_T × ar_T × ar_T × Int32
abbrev sS (x : sn_T) : ar_T := x.1
abbrev sE (x : sn_T) : ar_T := x.2.1
abbrev sN (x : sn_T) : ar_T := x.2.2.1
abbrev sL (x : sn_T) : ar_T := x.2.2.2.1
abbrev sT (x : sn_T) : Int32 := x.2.2.2.2
def eatS (e : en_T) (x : sn_T) (c : Nat) (much : Int32) : sn_T :=
  (upd (sS x) c (sS x c - imin (sS x c) much), sE x, sN x, upd (sL x) (eF e c).toInt.toNat (sL x (eF e c).toInt.toNat + imin (sS x c) much), sT x + imin (sS x c) much)
abbrev eOp (e : en_T) : Nat → Prop := fun n => eK e n ≠ 1
noncomputable abbrev eW (e : en_T) (x : sn_T) : Nat → Nat → Int := wP (eSt e) (sN x) (sE x)
noncomputable def dsS (e : en_T) (x : sn_T) (s : Nat) : ar_T := fun c => Int32.ofInt (dis (eOp e) (eW e x) s 0 c)
/-- the best target so far: (64: none) and what it is worth -/
noncomputable def tgS (e : en_T) (x : sn_T) (D : ar_T) (mo hu : Int32) : Nat → Nat × Int32
  | 0 => (64, 0)
  | c + 1 => if eK e c = 2 ∧ 0 < sS x c ∧ D c ≠ 1000000000 ∧ (tgS e x D mo hu c).2 < eLk e (eC e c).toInt.toNat mo * imin (sS x c) hu - D c then (c, eLk e (eC e c).toInt.toNat mo * imin (sS x c) hu - D c) else tgS e x D mo hu c
/-- fences on the way fall -/
def fnS (p : Nat → Nat) : Nat → ar_T → ar_T
  | 0, N => N
  | k + 1, N => upd (fnS p k N) (eix (p k) (p (k + 1))) 0
/-- what stands on the way is trampled: the places 1 .. k -/
def trS (e : en_T) (p : Nat → Nat) : Nat → sn_T → sn_T
  | 0, x => x
  | k + 1, x => if eK e (p (k + 1)) = 2 then eatS e (trS e p k x) (p (k + 1)) 5 else trS e p k x
noncomputable def heS (e : en_T) (x : sn_T) (h : Nat) (mo : Int32) : sn_T :=
  @ite _ ((tgS e x (dsS e x (eHo e h)) mo (eHu e h) 64).1 = 64) (Nat.decEq _ _) x
    (eatS e (trS e (pth (eOp e) (eW e x) (eHo e h) (tgS e x (dsS e x (eHo e h)) mo (eHu e h) 64).1).1 ((pth (eOp e) (eW e x) (eHo e h) (tgS e x (dsS e x (eHo e h)) mo (eHu e h) 64).1).2 - 2)
      (sS x, sE x, fnS (pth (eOp e) (eW e x) (eHo e h) (tgS e x (dsS e x (eHo e h)) mo (eHu e h) 64).1).1 ((pth (eOp e) (eW e x) (eHo e h) (tgS e x (dsS e x (eHo e h)) mo (eHu e h) 64).1).2 - 1) (sN x), sL x, sT x))
      (tgS e x (dsS e x (eHo e h)) mo (eHu e h) 64).1 (eHu e h))
noncomputable def hsS (e : en_T) (mo : Int32) : Nat → sn_T → sn_T
  | 0, x => x
  | h + 1, x => heS e (hsS e mo h x) h mo
abbrev moS (n : Int32) : Int32 := n / 30 - n / 30 / 12 * 12
/-- herds come, fear wears -/
noncomputable def niS (e : en_T) (n : Int32) (x : sn_T) : sn_T := (sS (hsS e (moS n) (eN e) x), wrS (eWr e) (sE (hsS e (moS n) (eN e) x)), sN (hsS e (moS n) (eN e) x), sL (hsS e (moS n) (eN e) x), sT (hsS e (moS n) (eN e) x))
/-- some nights, the first one's fear has been laid -/
noncomputable def nsS (e : en_T) (n0 : Int32) : Nat → sn_T → sn_T
  | 0, x => x
  | k + 1, x => niS e (n0 + I_ k) (nsS e n0 k x)
/-- what may be -/
def okE (e : en_T) : Prop := (1 ≤ (eSt e).toInt ∧ (eSt e).toInt ≤ 50) ∧ (0 ≤ (eSc e).toInt ∧ (eSc e).toInt ≤ 500) ∧ (0 ≤ (eWr e).toInt ∧ (eWr e).toInt ≤ 100) ∧ (∀ c, c < 64 → 0 ≤ (eF e c).toInt ∧ (eF e c).toInt < 10) ∧ (∀ c, c < 64 → 0 ≤ (eC e c).toInt ∧ (eC e c).toInt < 4) ∧ eN e ≤ 4 ∧ ∀ h, h < eN e → eHo e h < 64 ∧ 1 ≤ (eHu e h).toInt ∧ (eHu e h).toInt ≤ 200
def okX (x : sn_T) : Prop := (∀ c, c < 64 → 0 ≤ (sS x c).toInt ∧ (sS x c).toInt ≤ 1000) ∧ (∀ c, c < 64 → 0 ≤ (sE x c).toInt ∧ (sE x c).toInt ≤ 1000) ∧ (∀ c, c < 128 → 0 ≤ (sN x c).toInt ∧ (sN x c).toInt ≤ 100)
theorem okX.sc {e : en_T} {x : sn_T} (he : okE e) (h : okX x) : scK (eSt e) (sN x) (sE x) := ⟨he.1, h.2.2, h.2.1⟩
theorem imin_pos {x y : Int32} (hx : 0 ≤ x.toInt) (hy : 0 ≤ y.toInt) : 0 ≤ (imin x y).toInt ∧ (imin x y).toInt ≤ x.toInt ∧ (imin x y).toInt ≤ y.toInt := by rw [i_min]; omega
theorem okX.eat {e : en_T} {x : sn_T} (h : okX x) {c : Nat} {much : Int32} (hm : 0 ≤ much.toInt) (hc : c < 64) : okX (eatS e x c much) := by
  obtain ⟨h1, h2, h3⟩ := h
  refine ⟨fun k hk => ?_, h2, h3⟩
  show 0 ≤ (upd (sS x) c (sS x c - imin (sS x c) much) k).toInt ∧ _
  by_cases z : k = c
  · rw [z, upd_s]
    have a := h1 c hc
    have b := imin_pos a.1 hm
    rw [i_sub (by omega) (by omega)]
    constructor
    · omega
    · show (upd (sS x) c (sS x c - imin (sS x c) much) c).toInt ≤ 1000
      rw [upd_s, i_sub (by omega) (by omega)]
      omega
  · rw [upd_n z]
    have a := h1 k hk
    refine ⟨a.1, ?_⟩
    show (upd (sS x) c (sS x c - imin (sS x c) much) k).toInt ≤ 1000
    rw [upd_n z]
    exact a.2
theorem okX.tr {e : en_T} {p : Nat → Nat} {x : sn_T} (h : okX x) : ∀ k, (∀ j, j ≤ k → p j < 64) → okX (trS e p k x) := by
  intro k
  induction k with
  | zero => intro _; exact h
  | succ k ih =>
    intro hp
    rw [trS]
    by_cases z : eK e (p (k + 1)) = 2
    · rw [if_pos z]; exact (ih (fun j hj => hp j (by omega))).eat (by decide) (hp _ (Nat.le_refl _))
    · rw [if_neg z]; exact ih (fun j hj => hp j (by omega))
theorem fnS_ok {p : Nat → Nat} {N : ar_T} (h : ∀ c, c < 128 → 0 ≤ (N c).toInt ∧ (N c).toInt ≤ 100) : ∀ k c, c < 128 → 0 ≤ (fnS p k N c).toInt ∧ (fnS p k N c).toInt ≤ 100 := by
  intro k
  induction k with
  | zero => exact h
  | succ k ih =>
    intro c hc
    rw [fnS]
    by_cases z : c = eix (p k) (p (k + 1))
    · rw [z, upd_s]; decide
    · rw [upd_n z]; exact ih c hc
theorem frW_ok {h : Int32} {c : Nat} (hh : 0 ≤ h.toInt ∧ h.toInt ≤ 500) : ∀ w (E : ar_T), (∀ c, c < 64 → 0 ≤ (E c).toInt ∧ (E c).toInt ≤ 1000) → ∀ k, k < 64 → 0 ≤ (frW h c w E k).toInt ∧ (frW h c w E k).toInt ≤ 1000 := by
  intro w
  induction w with
  | zero => intro E hE; exact hE
  | succ w ih =>
    intro E hE k hk
    rw [frW]
    by_cases z : nb c w = 64
    · rw [if_pos z]; exact ih E hE k hk
    · rw [if_neg z]
      by_cases z2 : k = nb c w
      · rw [← z2, upd_s, i_min]
        have a := ih E hE k hk
        have e2 : (1000 : Int32).toInt = 1000 := by decide
        rw [i_add (by omega) (by omega), e2]
        omega
      · rw [upd_n z2]; exact ih E hE k hk
theorem half_ok2 {sc : Int32} (h : 0 ≤ sc.toInt ∧ sc.toInt ≤ 500) : 0 ≤ (sc / 2).toInt ∧ (sc / 2).toInt ≤ 500 := by
  rw [Int32.toInt_div, i_bmod (by rw [show (2 : Int32).toInt = 2 by decide, Int.tdiv_eq_ediv_of_nonneg h.1]; omega) (by rw [show (2 : Int32).toInt = 2 by decide, Int.tdiv_eq_ediv_of_nonneg h.1]; omega), show (2 : Int32).toInt = 2 by decide, Int.tdiv_eq_ediv_of_nonneg h.1]
  omega
theorem frS_ok {sc : Int32} (h : 0 ≤ sc.toInt ∧ sc.toInt ≤ 500) {E : ar_T} (hE : ∀ c, c < 64 → 0 ≤ (E c).toInt ∧ (E c).toInt ≤ 1000) {c : Nat} : ∀ k, k < 64 → 0 ≤ (frS sc E c k).toInt ∧ (frS sc E c k).toInt ≤ 1000 := by
  refine frW_ok (half_ok2 h) 4 _ fun k hk => ?_
  by_cases z : k = c
  · rw [← z, upd_s, i_min]
    have a := hE k hk
    have e2 : (1000 : Int32).toInt = 1000 := by decide
    rw [i_add (by omega) (by omega), e2]
    omega
  · rw [upd_n z]; exact hE k hk
theorem frL_ok {sc : Int32} (h : 0 ≤ sc.toInt ∧ sc.toInt ≤ 500) {E : ar_T} (hE : ∀ c, c < 64 → 0 ≤ (E c).toInt ∧ (E c).toInt ≤ 1000) {cells : Nat → Nat} : ∀ n k, k < 64 → 0 ≤ (frL sc cells n E k).toInt ∧ (frL sc cells n E k).toInt ≤ 1000 := by
  intro n
  induction n with
  | zero => exact hE
  | succ n ih => exact frS_ok h ih
theorem wrS_ok {wr : Int32} (h : 0 ≤ wr.toInt ∧ wr.toInt ≤ 100) {E : ar_T} (hE : ∀ c, c < 64 → 0 ≤ (E c).toInt ∧ (E c).toInt ≤ 1000) : ∀ k, k < 64 → 0 ≤ (wrS wr E k).toInt ∧ (wrS wr E k).toInt ≤ 1000 := by
  intro k hk
  unfold wrS
  rw [cut_at hk]
  have a := hE k hk
  have b1 : 0 ≤ (E k).toInt * wr.toInt := Int.mul_nonneg a.1 h.1
  have b2 : (E k).toInt * wr.toInt ≤ 1000 * 100 := Int.mul_le_mul a.2 h.2 h.1 (by decide)
  have e1 : (E k * wr).toInt = (E k).toInt * wr.toInt := i_mul (by omega) (by omega)
  have e2 : (100 : Int32).toInt = 100 := by decide
  rw [Int32.toInt_div, e1, e2, Int.tdiv_eq_ediv_of_nonneg b1, i_bmod (by omega) (by omega)]
  omega
