/-! ===== plain laws: a board gone through again and again ===== -/
set_option maxRecDepth 100000
def sumN : Nat → (Nat → Int) → Int
  | 0, _ => 0
  | n + 1, f => sumN n f + f n
theorem sumN_ext {n : Nat} {f g : Nat → Int} (h : ∀ j, j < n → f j = g j) : sumN n f = sumN n g := by
  induction n with
  | zero => rfl
  | succ n ih => rw [sumN, sumN, ih (fun j hj => h j (by omega)), h n (by omega)]
theorem sumN_upd {n k : Nat} {f g : Nat → Int} (hk : k < n) (h : ∀ j, j < n → j ≠ k → g j = f j) : sumN n g = sumN n f - f k + g k := by
  induction n with
  | zero => omega
  | succ n ih =>
    rw [sumN, sumN]
    by_cases e : k = n
    · subst e
      rw [sumN_ext (fun j hj => h j (by omega) (by omega))]
      omega
    · rw [ih (by omega) (fun j hj => h j (by omega)), h n (by omega) (fun q => e q.symm)]
      omega
theorem sumN_lo {n : Nat} {f : Nat → Int} {b : Int} (h : ∀ j, j < n → b ≤ f j) : n * b ≤ sumN n f := by
  induction n with
  | zero => simp [sumN]
  | succ n ih =>
    rw [sumN]
    have h1 := ih (fun j hj => h j (by omega))
    have h2 := h n (by omega)
    have h3 : ((n + 1 : Nat) : Int) * b = n * b + b := by rw [Int.natCast_add, Int.add_mul]; omega
    omega
theorem sumN_hi {n : Nat} {f : Nat → Int} {b : Int} (h : ∀ j, j < n → f j ≤ b) : sumN n f ≤ n * b := by
  induction n with
  | zero => simp [sumN]
  | succ n ih =>
    rw [sumN]
    have h1 := ih (fun j hj => h j (by omega))
    have h2 := h n (by omega)
    have h3 : ((n + 1 : Nat) : Int) * b = n * b + b := by rw [Int.natCast_add, Int.add_mul]; omega
    omega
abbrev ar_T : Type := Nat → Int32
theorem pass_ {O : Type} (E : Nat → Prop) {R : Nat → Nat → ar_T → Prop} {J : ar_T → Prop} {mu : ar_T → Nat} {lc : Nat → ar_T → Int32 → Nat → O} {lw : Nat → Nat → ar_T → Int32 → Nat → Nat → O} {k : ar_T → Int32 → O}
    (hend : ∀ n f x, lc (n + 1) f x 64 = k f x)
    (hc : ∀ n f x c, c < 64 → J f → (lc (n + 1) f x c = lc n f x (c + 1) ∧ ∀ w, w < 4 → R c w f) ∨ (lc (n + 1) f x c = lw n fu_ f x c 0 ∧ E c))
    (hwend : ∀ n m f x c, c < 64 → lw n (m + 1) f x c 4 = lc n f x (c + 1))
    (hw : ∀ n m f x c w, c < 64 → w < 4 → E c → J f → (lw n (m + 1) f x c w = lw n m f x c (w + 1) ∧ R c w f) ∨ ∃ f', lw n (m + 1) f x c w = lw n m f' 1 c (w + 1) ∧ J f' ∧ mu f' < mu f)
    (f : ar_T) (hJ : J f) : ∃ f' x', lc fu_ f 0 0 = k f' x' ∧ J f' ∧ ((x' = 0 ∧ f' = f ∧ ∀ c, c < 64 → ∀ w, w < 4 → R c w f) ∨ (x' = 1 ∧ mu f' < mu f)) := by
  have inner : ∀ n c f1 x1, c < 64 → E c → J f1 → ∃ f2 x2, lw n fu_ f1 x1 c 0 = lc n f2 x2 (c + 1) ∧ J f2 ∧ ((x2 = x1 ∧ f2 = f1 ∧ ∀ w, w < 4 → R c w f1) ∨ (x2 = 1 ∧ mu f2 < mu f1)) := by
    intro n c f1 x1 hc64 hE hJ1
    obtain ⟨⟨f2, x2⟩, e, h1, h2⟩ := upto (O := O) (S := ar_T × Int32) (N := 4) (lp := fun m s w => lw n m s.1 s.2 c w) (k := fun s => lc n s.1 s.2 (c + 1))
      (inv := fun w s => J s.1 ∧ ((s.2 = x1 ∧ s.1 = f1 ∧ ∀ w', w' < w → R c w' f1) ∨ (s.2 = 1 ∧ mu s.1 < mu f1)))
      (fun m s _ => hwend n m s.1 s.2 c hc64)
      (fun w m s hw4 hi => by
        obtain ⟨hJs, hi⟩ := hi
        rcases hw n m s.1 s.2 c w hc64 hw4 hE hJs with ⟨e, hR⟩ | ⟨f', e, hJ', hmu⟩
        · refine ⟨s, e, hJs, ?_⟩
          rcases hi with ⟨i1, i2, i3⟩ | hi
          · refine Or.inl ⟨i1, i2, fun w' hw' => ?_⟩
            by_cases ee : w' = w
            · subst ee; rw [← i2]; exact hR
            · exact i3 w' (by omega)
          · exact Or.inr hi
        · refine ⟨(f', 1), e, hJ', Or.inr ⟨rfl, ?_⟩⟩
          rcases hi with ⟨-, i2, -⟩ | ⟨-, hi⟩
          · rw [i2] at hmu; exact hmu
          · show mu f' < mu f1
            omega)
      0 fu_ (f1, x1) (by omega) (fu_big (by omega)) ⟨hJ1, Or.inl ⟨rfl, rfl, fun w' hw' => by omega⟩⟩
    exact ⟨f2, x2, e, h1, h2⟩
  obtain ⟨⟨f2, x2⟩, e, h1, h2⟩ := upto (O := O) (S := ar_T × Int32) (N := 64) (lp := fun n s c => lc n s.1 s.2 c) (k := fun s => k s.1 s.2)
    (inv := fun c s => J s.1 ∧ ((s.2 = 0 ∧ s.1 = f ∧ ∀ c', c' < c → ∀ w, w < 4 → R c' w f) ∨ (s.2 = 1 ∧ mu s.1 < mu f)))
    (fun n s _ => hend n s.1 s.2)
    (fun c n s hc64 hi => by
      obtain ⟨hJs, hi⟩ := hi
      have fin : ∀ f2 x2, J f2 → ((x2 = s.2 ∧ f2 = s.1 ∧ ∀ w, w < 4 → R c w s.1) ∨ (x2 = 1 ∧ mu f2 < mu s.1)) → J f2 ∧ ((x2 = 0 ∧ f2 = f ∧ ∀ c', c' < c + 1 → ∀ w, w < 4 → R c' w f) ∨ (x2 = 1 ∧ mu f2 < mu f)) := by
        intro f2 x2 hJ2 h
        refine ⟨hJ2, ?_⟩
        rcases h with ⟨j1, j2, j3⟩ | ⟨j1, j2⟩
        · rcases hi with ⟨i1, i2, i3⟩ | ⟨i1, i2⟩
          · refine Or.inl ⟨j1.trans i1, j2.trans i2, fun c' hc' => ?_⟩
            by_cases ee : c' = c
            · subst ee; rw [← i2]; exact j3
            · exact i3 c' (by omega)
          · exact Or.inr ⟨j1.trans i1, by rw [j2]; exact i2⟩
        · refine Or.inr ⟨j1, ?_⟩
          rcases hi with ⟨-, i2, -⟩ | ⟨-, i2⟩
          · rw [i2] at j2; exact j2
          · omega
      rcases hc n s.1 s.2 c hc64 hJs with ⟨e, hR⟩ | ⟨e, hE⟩
      · exact ⟨s, e, fin s.1 s.2 hJs (Or.inl ⟨rfl, rfl, hR⟩)⟩
      · obtain ⟨f2, x2, e2, h3, h4⟩ := inner n c s.1 s.2 hc64 hE hJs
        exact ⟨(f2, x2), e.trans e2, fin f2 x2 h3 h4⟩)
    0 fu_ (f, 0) (by omega) (fu_big (by omega)) ⟨hJ, Or.inl ⟨rfl, rfl, fun c' hc' => by omega⟩⟩
  exact ⟨f2, x2, e, h1, h2⟩
theorem fix_ {O : Type} {R : Nat → Nat → ar_T → Prop} {J : ar_T → Prop} {mu : ar_T → Nat} {lo : Nat → ar_T → Int32 → O} {fin : ar_T → O}
    (h0 : ∀ n f, lo (n + 1) f 0 = fin f)
    (h1 : ∀ n f, J f → ∃ f' x', lo (n + 1) f 1 = lo n f' x' ∧ J f' ∧ ((x' = 0 ∧ f' = f ∧ ∀ c, c < 64 → ∀ w, w < 4 → R c w f) ∨ (x' = 1 ∧ mu f' < mu f))) :
    ∀ n f, J f → mu f + 1 < n → ∃ f', lo n f 1 = fin f' ∧ J f' ∧ ∀ c, c < 64 → ∀ w, w < 4 → R c w f' := by
  intro n
  induction n with
  | zero => intro f hJ h; omega
  | succ n ih =>
    intro f hJ h
    obtain ⟨f', x', e, hJ', h2⟩ := h1 n f hJ
    rcases h2 with ⟨rfl, rfl, hR⟩ | ⟨rfl, hmu⟩
    · cases n with
      | zero => omega
      | succ n => exact ⟨f', e.trans (h0 n f'), hJ', hR⟩
    · obtain ⟨f2, e2, hJ2, hR⟩ := ih f' hJ' (by omega)
      exact ⟨f2, e.trans e2, hJ2, hR⟩
