/-! ===== plain laws: numbers, loops ===== -/
set_option maxRecDepth 100000
def I_ (n : Nat) : Int32 := Int32.ofNat n
theorem I_nat {n : Nat} (h : n < 2147483648) : (I_ n).toNatClampNeg = n := Int32.toNatClampNeg_ofNat_of_lt h
theorem I_int {n : Nat} (h : n < 2147483648) : (I_ n).toInt = (n : Int) := Int32.toInt_ofNat_of_lt h
theorem I_add (a b : Nat) : I_ a + I_ b = I_ (a + b) := (Int32.ofNat_add a b).symm
theorem I_one (a : Nat) : I_ a + (1 : Int32) = I_ (a + 1) := I_add a 1
theorem I_lt {a b : Nat} (ha : a < 2147483648) (hb : b < 2147483648) : I_ a < I_ b ↔ a < b := by
  rw [Int32.lt_iff_toInt_lt, I_int ha, I_int hb]; omega
theorem I_le {a b : Nat} (ha : a < 2147483648) (hb : b < 2147483648) : I_ a ≤ I_ b ↔ a ≤ b := by
  rw [Int32.le_iff_toInt_le, I_int ha, I_int hb]; omega
theorem I_inj {a b : Nat} (ha : a < 2147483648) (hb : b < 2147483648) : I_ a = I_ b ↔ a = b := by
  rw [← Int32.toInt_inj, I_int ha, I_int hb]; omega
theorem I_inb {a n : Nat} (ha : a < 2147483648) : inb (I_ a) n ↔ a < n := by
  unfold inb
  rw [I_nat ha, Int32.lt_iff_toInt_lt, I_int ha]
  have h0 : (0 : Int32).toInt = 0 := rfl
  rw [h0]; omega
/-- a number that is not negative is a natural one -/
theorem I_of {x : Int32} (h : 0 ≤ x.toInt) : x = I_ x.toInt.toNat := by
  rw [← Int32.toInt_inj]
  have h1 : x.toInt < 2147483648 := Int32.toInt_lt x
  rw [I_int (by omega)]; omega
theorem i_lo (x : Int32) : -2147483648 ≤ x.toInt := Int32.le_toInt x
theorem i_hi (x : Int32) : x.toInt < 2147483648 := Int32.toInt_lt x
theorem i_bmod {z : Int} (h1 : -2147483648 ≤ z) (h2 : z < 2147483648) : z.bmod (2 ^ 32) = z := Int.bmod_eq_of_le (by omega) (by omega)
theorem i_add {x y : Int32} (h1 : -2147483648 ≤ x.toInt + y.toInt) (h2 : x.toInt + y.toInt < 2147483648) : (x + y).toInt = x.toInt + y.toInt := by
  rw [Int32.toInt_add, i_bmod h1 h2]
theorem i_sub {x y : Int32} (h1 : -2147483648 ≤ x.toInt - y.toInt) (h2 : x.toInt - y.toInt < 2147483648) : (x - y).toInt = x.toInt - y.toInt := by
  rw [Int32.toInt_sub, i_bmod h1 h2]
theorem i_mul {x y : Int32} (h1 : -2147483648 ≤ x.toInt * y.toInt) (h2 : x.toInt * y.toInt < 2147483648) : (x * y).toInt = x.toInt * y.toInt := by
  rw [Int32.toInt_mul, i_bmod h1 h2]
theorem i_lt {x y : Int32} : x < y ↔ x.toInt < y.toInt := Int32.lt_iff_toInt_lt
theorem i_le {x y : Int32} : x ≤ y ↔ x.toInt ≤ y.toInt := Int32.le_iff_toInt_le
theorem i_eq {x y : Int32} : x = y ↔ x.toInt = y.toInt := Int32.toInt_inj.symm
theorem i_inb {x : Int32} {n : Nat} : inb x n ↔ 0 ≤ x.toInt ∧ x.toInt < n := by
  unfold inb
  rw [i_lt]
  have h0 : (0 : Int32).toInt = 0 := rfl
  have h1 : x.toNatClampNeg = x.toInt.toNat := rfl
  rw [h0, h1]; omega
theorem i_min {x y : Int32} : (imin x y).toInt = min x.toInt y.toInt := by
  unfold imin
  by_cases h : y < x
  · rw [if_pos h]; rw [i_lt] at h; omega
  · rw [if_neg h]; rw [i_lt] at h; omega
theorem i_max {x y : Int32} : (imax x y).toInt = max x.toInt y.toInt := by
  unfold imax
  by_cases h : x < y
  · rw [if_pos h]; rw [i_lt] at h; omega
  · rw [if_neg h]; rw [i_lt] at h; omega
/-- a loop that counts up, with what it carries along -/
theorem upto {O S : Type} {N : Nat} {lp : Nat → S → Nat → O} {k : S → O} {inv : Nat → S → Prop}
    (hend : ∀ n s, inv N s → lp (n + 1) s N = k s)
    (hstep : ∀ i n s, i < N → inv i s → ∃ s', lp (n + 1) s i = lp n s' (i + 1) ∧ inv (i + 1) s') :
    ∀ i n s, i ≤ N → N - i < n → inv i s → ∃ s', lp n s i = k s' ∧ inv N s' := by
  intro i n
  induction n generalizing i with
  | zero => intro s h1 h2; omega
  | succ n ih =>
    intro s h1 h2 h3
    by_cases hi : i = N
    · subst hi; exact ⟨s, hend n s h3, h3⟩
    · obtain ⟨s1, e, h4⟩ := hstep i n s (by omega) h3
      obtain ⟨s2, e2, h5⟩ := ih (i + 1) s1 (by omega) (by omega) h4
      exact ⟨s2, e.trans e2, h5⟩
/-- a loop that may leave early -/
theorem uptoX {O S : Type} {N : Nat} {lp : Nat → S → Nat → O} {R : O → Prop} {inv : Nat → S → Prop}
    (hend : ∀ n s, inv N s → R (lp (n + 1) s N))
    (hstep : ∀ i n s, i < N → inv i s → R (lp (n + 1) s i) ∨ ∃ s', lp (n + 1) s i = lp n s' (i + 1) ∧ inv (i + 1) s') :
    ∀ i n s, i ≤ N → N - i < n → inv i s → R (lp n s i) := by
  intro i n
  induction n generalizing i with
  | zero => intro s h1 h2; omega
  | succ n ih =>
    intro s h1 h2 h3
    by_cases hi : i = N
    · subst hi; exact hend n s h3
    · rcases hstep i n s (by omega) h3 with h | ⟨s1, e, h4⟩
      · exact h
      · rw [e]; exact ih (i + 1) s1 (by omega) (by omega) h4
theorem fu_big {k : Nat} (h : k < 1000000000000) : k < fu_ := h
theorem I_z : (0 : Int32) = I_ 0 := rfl
theorem le_0 {c : Nat} (hc : c < 2147483648) : (0 : Int32) ≤ I_ c ↔ 0 ≤ c := I_le (a := 0) (by omega) hc
theorem eq_0 {c : Nat} (hc : c < 2147483648) : I_ c = (0 : Int32) ↔ c = 0 := I_inj (b := 0) hc (by omega)
theorem le_1 {c : Nat} (hc : c < 2147483648) : (1 : Int32) ≤ I_ c ↔ 1 ≤ c := I_le (a := 1) (by omega) hc
theorem eq_1 {c : Nat} (hc : c < 2147483648) : I_ c = (1 : Int32) ↔ c = 1 := I_inj (b := 1) hc (by omega)
theorem le_2 {c : Nat} (hc : c < 2147483648) : (2 : Int32) ≤ I_ c ↔ 2 ≤ c := I_le (a := 2) (by omega) hc
theorem eq_2 {c : Nat} (hc : c < 2147483648) : I_ c = (2 : Int32) ↔ c = 2 := I_inj (b := 2) hc (by omega)
theorem le_3 {c : Nat} (hc : c < 2147483648) : (3 : Int32) ≤ I_ c ↔ 3 ≤ c := I_le (a := 3) (by omega) hc
theorem eq_3 {c : Nat} (hc : c < 2147483648) : I_ c = (3 : Int32) ↔ c = 3 := I_inj (b := 3) hc (by omega)
theorem le_4 {c : Nat} (hc : c < 2147483648) : (4 : Int32) ≤ I_ c ↔ 4 ≤ c := I_le (a := 4) (by omega) hc
theorem eq_4 {c : Nat} (hc : c < 2147483648) : I_ c = (4 : Int32) ↔ c = 4 := I_inj (b := 4) hc (by omega)
theorem le_5 {c : Nat} (hc : c < 2147483648) : (5 : Int32) ≤ I_ c ↔ 5 ≤ c := I_le (a := 5) (by omega) hc
theorem eq_5 {c : Nat} (hc : c < 2147483648) : I_ c = (5 : Int32) ↔ c = 5 := I_inj (b := 5) hc (by omega)
theorem le_6 {c : Nat} (hc : c < 2147483648) : (6 : Int32) ≤ I_ c ↔ 6 ≤ c := I_le (a := 6) (by omega) hc
theorem eq_6 {c : Nat} (hc : c < 2147483648) : I_ c = (6 : Int32) ↔ c = 6 := I_inj (b := 6) hc (by omega)
theorem le_8 {c : Nat} (hc : c < 2147483648) : (8 : Int32) ≤ I_ c ↔ 8 ≤ c := I_le (a := 8) (by omega) hc
theorem eq_8 {c : Nat} (hc : c < 2147483648) : I_ c = (8 : Int32) ↔ c = 8 := I_inj (b := 8) hc (by omega)
theorem le_10 {c : Nat} (hc : c < 2147483648) : (10 : Int32) ≤ I_ c ↔ 10 ≤ c := I_le (a := 10) (by omega) hc
theorem eq_10 {c : Nat} (hc : c < 2147483648) : I_ c = (10 : Int32) ↔ c = 10 := I_inj (b := 10) hc (by omega)
theorem le_11 {c : Nat} (hc : c < 2147483648) : (11 : Int32) ≤ I_ c ↔ 11 ≤ c := I_le (a := 11) (by omega) hc
theorem eq_11 {c : Nat} (hc : c < 2147483648) : I_ c = (11 : Int32) ↔ c = 11 := I_inj (b := 11) hc (by omega)
theorem le_12 {c : Nat} (hc : c < 2147483648) : (12 : Int32) ≤ I_ c ↔ 12 ≤ c := I_le (a := 12) (by omega) hc
theorem eq_12 {c : Nat} (hc : c < 2147483648) : I_ c = (12 : Int32) ↔ c = 12 := I_inj (b := 12) hc (by omega)
theorem le_20 {c : Nat} (hc : c < 2147483648) : (20 : Int32) ≤ I_ c ↔ 20 ≤ c := I_le (a := 20) (by omega) hc
theorem eq_20 {c : Nat} (hc : c < 2147483648) : I_ c = (20 : Int32) ↔ c = 20 := I_inj (b := 20) hc (by omega)
theorem le_48 {c : Nat} (hc : c < 2147483648) : (48 : Int32) ≤ I_ c ↔ 48 ≤ c := I_le (a := 48) (by omega) hc
theorem eq_48 {c : Nat} (hc : c < 2147483648) : I_ c = (48 : Int32) ↔ c = 48 := I_inj (b := 48) hc (by omega)
theorem le_60 {c : Nat} (hc : c < 2147483648) : (60 : Int32) ≤ I_ c ↔ 60 ≤ c := I_le (a := 60) (by omega) hc
theorem eq_60 {c : Nat} (hc : c < 2147483648) : I_ c = (60 : Int32) ↔ c = 60 := I_inj (b := 60) hc (by omega)
theorem le_64 {c : Nat} (hc : c < 2147483648) : (64 : Int32) ≤ I_ c ↔ 64 ≤ c := I_le (a := 64) (by omega) hc
theorem eq_64 {c : Nat} (hc : c < 2147483648) : I_ c = (64 : Int32) ↔ c = 64 := I_inj (b := 64) hc (by omega)
theorem le_100 {c : Nat} (hc : c < 2147483648) : (100 : Int32) ≤ I_ c ↔ 100 ≤ c := I_le (a := 100) (by omega) hc
theorem eq_100 {c : Nat} (hc : c < 2147483648) : I_ c = (100 : Int32) ↔ c = 100 := I_inj (b := 100) hc (by omega)
theorem le_128 {c : Nat} (hc : c < 2147483648) : (128 : Int32) ≤ I_ c ↔ 128 ≤ c := I_le (a := 128) (by omega) hc
theorem eq_128 {c : Nat} (hc : c < 2147483648) : I_ c = (128 : Int32) ↔ c = 128 := I_inj (b := 128) hc (by omega)
theorem le_400 {c : Nat} (hc : c < 2147483648) : (400 : Int32) ≤ I_ c ↔ 400 ≤ c := I_le (a := 400) (by omega) hc
theorem eq_400 {c : Nat} (hc : c < 2147483648) : I_ c = (400 : Int32) ↔ c = 400 := I_inj (b := 400) hc (by omega)
theorem I_neg {c : Nat} (hc : c < 2147483648) : ¬ I_ c = (-1 : Int32) := by
  intro h
  have h1 := congrArg Int32.toInt h
  rw [I_int hc] at h1
  have h2 : (-1 : Int32).toInt = -1 := by decide
  omega
theorem lt_def {α β : Type} (a : α) (f : α → β) : lt_ a f = f a := rfl
theorem bn2_def {α β γ : Type} (a : α) (b : β) (f : α → β → Option γ) : bn2_ (some (a, b)) f = f a b := rfl
theorem sm_l {α β γ : Type} (a : α) (f : α → γ) (k : β → γ) : sm_ (.inl a) f k = f a := rfl
theorem sm_r {α β γ : Type} (b : β) (f : α → γ) (k : β → γ) : sm_ (.inr b) f k = k b := rfl
/-- an array written over in one go -/
theorem sE_up {σ : st_T} {r i j : Nat} {v : Int32} {f : Nat → Int32} : sE_ (sA_ σ r i f) r i j v = sA_ σ r i (upd f j v) := by
  unfold sE_
  rw [gA_sA, if_pos ⟨rfl, rfl⟩]
  unfold sA_
  congr 2
  funext r' i'
  by_cases h : r' = r ∧ i' = i
  · simp only [if_pos h]
  · simp only [if_neg h]
theorem sA_id {σ : st_T} {r i : Nat} : sA_ σ r i (gA_ σ r i) = σ := by
  unfold sA_ gA_
  have : (fun r' i' => if r' = r ∧ i' = i then σ.2.1 r i else σ.2.1 r' i') = σ.2.1 := by
    funext r' i'
    by_cases h : r' = r ∧ i' = i
    · rw [if_pos h, h.1, h.2]
    · rw [if_neg h]
  rw [this]
theorem sE_sA {σ : st_T} {r i j : Nat} {v : Int32} : sE_ σ r i j v = sA_ σ r i (upd (gA_ σ r i) j v) := rfl
theorem sA_sA {σ : st_T} {r i : Nat} {f g : Nat → Int32} : sA_ (sA_ σ r i f) r i g = sA_ σ r i g := by
  unfold sA_
  congr 2
  funext r' i'
  by_cases h : r' = r ∧ i' = i
  · simp only [if_pos h]
  · simp only [if_neg h]
theorem sA_cm {σ : st_T} {r i r' i' : Nat} {f g : Nat → Int32} (h : r ≠ r') : sA_ (sA_ σ r i f) r' i' g = sA_ (sA_ σ r' i' g) r i f := by
  unfold sA_
  congr 2
  funext a b
  by_cases h1 : a = r ∧ b = i
  · by_cases h2 : a = r' ∧ b = i'
    · exact (h (h1.1.symm.trans h2.1)).elim
    · simp only [if_pos h1, if_neg h2]
  · by_cases h2 : a = r' ∧ b = i'
    · simp only [if_neg h1, if_pos h2]
    · simp only [if_neg h1, if_neg h2]
theorem gA_same {σ : st_T} {r i : Nat} {f : Nat → Int32} : gA_ (sA_ σ r i f) r i = f := by rw [gA_sA, if_pos ⟨rfl, rfl⟩]
theorem gA_ne {σ : st_T} {r i r' i' : Nat} {f : Nat → Int32} (h : r' ≠ r) : gA_ (sA_ σ r i f) r' i' = gA_ σ r' i' := by rw [gA_sA, if_neg (fun q => h q.1)]
theorem gA_ni {σ : st_T} {r i r' i' : Nat} {f : Nat → Int32} (h : i' ≠ i) : gA_ (sA_ σ r i f) r' i' = gA_ σ r' i' := by rw [gA_sA, if_neg (fun q => h q.2)]
theorem gAE_ne {σ : st_T} {r i j r' i' : Nat} {v : Int32} (h : r' ≠ r) : gA_ (sE_ σ r i j v) r' i' = gA_ σ r' i' := by rw [sE_sA, gA_ne h]
theorem gAE_ni {σ : st_T} {r i j r' i' : Nat} {v : Int32} (h : i' ≠ i) : gA_ (sE_ σ r i j v) r' i' = gA_ σ r' i' := by rw [sE_sA, gA_ni h]
theorem gAE_s {σ : st_T} {r i j : Nat} {v : Int32} : gA_ (sE_ σ r i j v) r i = upd (gA_ σ r i) j v := by rw [sE_sA, gA_same]
theorem upd_s {f : Nat → Int32} {j : Nat} {v : Int32} : upd f j v j = v := by simp [upd]
theorem upd_n {f : Nat → Int32} {j k : Nat} {v : Int32} (h : k ≠ j) : upd f j v k = f k := by simp [upd, h]
/-- filled up to n -/
def fil (n : Nat) (v g : Nat → Int32) : Nat → Int32 := fun j => if j < n then v j else g j
theorem fil_0 {v g : Nat → Int32} : fil 0 v g = g := by funext j; simp [fil]
theorem fil_s {n : Nat} {v g : Nat → Int32} : upd (fil n v g) n (v n) = fil (n + 1) v g := by
  funext j
  unfold upd fil
  by_cases h : j = n
  · subst h; simp
  · by_cases h2 : j < n
    · simp [h, h2, Nat.lt_succ_of_lt h2]
    · have : ¬ j < n + 1 := by omega
      simp [h, h2, this]
theorem fil_at {n j : Nat} {v g : Nat → Int32} (h : j < n) : fil n v g j = v j := by simp [fil, h]
theorem fil_ge {n j : Nat} {v g : Nat → Int32} (h : n ≤ j) : fil n v g j = g j := by simp [fil, Nat.not_lt.mpr h]
/-- the same from a place a on -/
theorem uptoF {O S : Type} {N a : Nat} {lp : Nat → S → Nat → O} {k : S → O} {inv : Nat → S → Prop}
    (hend : ∀ n s, inv N s → lp (n + 1) s N = k s)
    (hstep : ∀ i n s, a ≤ i → i < N → inv i s → ∃ s', lp (n + 1) s i = lp n s' (i + 1) ∧ inv (i + 1) s') (ha : a ≤ N) :
    ∀ n s, N - a < n → inv a s → ∃ s', lp n s a = k s' ∧ inv N s' := by
  intro n s hn hi
  obtain ⟨s', e, h⟩ := upto (N := N) (lp := lp) (k := k) (inv := fun i s => a ≤ i ∧ inv i s) (fun n s h => hend n s h.2) (fun i n s h1 h2 => by
    obtain ⟨s', e, h3⟩ := hstep i n s h2.1 h1 h2.2
    exact ⟨s', e, by omega, h3⟩) a n s ha hn ⟨Nat.le_refl _, hi⟩
  exact ⟨s', e, h.2⟩
