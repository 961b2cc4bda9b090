/-! ===== plain laws: the first of the cheapest ways ===== -/
set_option maxRecDepth 100000
theorem sumN_le {n : Nat} {f g : Nat → Int} (h : ∀ j, j < n → f j ≤ g j) : sumN n f ≤ sumN n g := by
  induction n with
  | zero => exact Int.le_refl _
  | succ n ih => rw [sumN, sumN]; have := ih (fun j hj => h j (by omega)); have := h n (by omega); omega
theorem sumN_lt {n : Nat} {f g : Nat → Int} (h : ∀ j, j < n → f j ≤ g j) {k : Nat} (hk : k < n) (hlt : f k < g k) : sumN n f < sumN n g := by
  induction n with
  | zero => omega
  | succ n ih =>
    rw [sumN, sumN]
    by_cases e : k = n
    · subst e
      have := sumN_le (fun j (hj : j < k) => h j (by omega))
      omega
    · have := ih (fun j hj => h j (by omega)) (by omega)
      have := h n (by omega)
      omega
def rnk (f : Nat → Int) (c : Nat) : Nat := (sumN 64 (fun d => if f d < f c then 1 else 0)).toNat
theorem rnk_lt {f : Nat → Int} {c n : Nat} (hn : n < 64) (h : f n < f c) : rnk f n < rnk f c := by
  have h1 : sumN 64 (fun d => if f d < f n then (1 : Int) else 0) < sumN 64 (fun d => if f d < f c then (1 : Int) else 0) := by
    refine sumN_lt (fun j _ => ?_) hn ?_
    · by_cases q : f j < f n
      · rw [if_pos q, if_pos (by omega)]; exact Int.le_refl _
      · rw [if_neg q]
        by_cases q2 : f j < f c
        · rw [if_pos q2]; decide
        · rw [if_neg q2]; decide
    · show (if f n < f n then (1 : Int) else 0) < (if f n < f c then (1 : Int) else 0)
      rw [if_neg (by omega), if_pos h]; decide
  have h2 := sumN_lo (n := 64) (f := fun d => if f d < f n then (1 : Int) else 0) (b := 0) (fun j _ => by
    show 0 ≤ (if f j < f n then (1 : Int) else 0)
    by_cases q : f j < f n
    · rw [if_pos q]; decide
    · rw [if_neg q]; decide)
  unfold rnk
  omega
theorem rnk_hi {f : Nat → Int} {c : Nat} (hc : c < 64) : rnk f c ≤ 63 := by
  have h1 : sumN 64 (fun d => if f d < f c then (1 : Int) else 0) < sumN 64 (fun _ => 1) := by
    refine sumN_lt (fun j _ => ?_) hc ?_
    · by_cases q : f j < f c
      · rw [if_pos q]; exact Int.le_refl _
      · rw [if_neg q]; decide
    · show (if f c < f c then (1 : Int) else 0) < 1
      rw [if_neg (by omega)]; decide
  have h2 := sumN_hi (n := 64) (f := fun _ => (1 : Int)) (b := 1) (fun _ _ => Int.le_refl _)
  unfold rnk
  omega
/-- the way q leads on -/
def okq (f : Nat → Int) (w : Nat → Nat → Int) (c q : Nat) : Prop := nb c q < 64 ∧ f (nb c q) < FAR_ ∧ f c = f (nb c q) + w c (nb c q)
def isNx (f : Nat → Int) (w : Nat → Nat → Int) (c n : Nat) : Prop := ∃ q, q < 4 ∧ n = nb c q ∧ okq f w c q ∧ ∀ q', q' < q → ¬ okq f w c q'
theorem isNx_fn {f : Nat → Int} {w : Nat → Nat → Int} {c n n' : Nat} (h : isNx f w c n) (h' : isNx f w c n') : n = n' := by
  obtain ⟨q, -, e, h1, h2⟩ := h
  obtain ⟨q', -, e', h1', h2'⟩ := h'
  have : q = q' := by
    rcases Nat.lt_trichotomy q q' with k | k | k
    · exact absurd h1 (h2' q k)
    · exact k
    · exact absurd h1' (h2 q' k)
  rw [e, e', this]
theorem least4 {P : Nat → Prop} (h : ∃ q, q < 4 ∧ P q) : ∃ q, q < 4 ∧ P q ∧ ∀ q', q' < q → ¬ P q' := by
  have key : ∀ n : Nat, (∃ q, q < n ∧ P q) → ∃ q, q < n ∧ P q ∧ ∀ q', q' < q → ¬ P q' := by
    intro n
    induction n with
    | zero => rintro ⟨q, hq, -⟩; omega
    | succ n ih =>
      intro h
      by_cases h1 : ∃ q, q < n ∧ P q
      · obtain ⟨q, a, b, c⟩ := ih h1
        exact ⟨q, by omega, b, c⟩
      · obtain ⟨q, a, b⟩ := h
        have e : q = n := by
          by_cases k : q < n
          · exact absurd ⟨q, k, b⟩ h1
          · omega
        subst e
        exact ⟨q, a, b, fun q' hq' hp => h1 ⟨q', hq', hp⟩⟩
  exact key 4 h
/-- w n c is what the step from n to c costs; f: from c on to t -/
abbrev bwd (w : Nat → Nat → Int) : Nat → Nat → Int := fun c n => w n c
theorem LC_next {op : Nat → Prop} {w : Nat → Nat → Int} {t : Nat} {f : Nat → Int} (h : LC op (bwd w) t 0 f) {c : Nat} (hc : c < 64) (hct : c ≠ t) (hF : f c < FAR_) : ∃ q, q < 4 ∧ okq f w c q ∧ ∀ q', q' < q → ¬ okq f w c q' := by
  refine least4 ?_
  obtain ⟨n, hn, ha, hnF, e⟩ := h.2.2.2.2 c hc hct hF
  obtain ⟨-, q, hq, eq⟩ := adj_symm hn ha
  refine ⟨q, hq, ?_, ?_, ?_⟩
  · rw [eq]; exact hn
  · rw [eq]; exact hnF
  · rw [eq]; exact e
def PathR (f : Nat → Int) (w : Nat → Nat → Int) (h t : Nat) (p : Nat → Nat) (L : Nat) : Prop :=
  p 0 = h ∧ 1 ≤ L ∧ L ≤ 64 ∧ p (L - 1) = t ∧ (∀ j, j < L → p j < 64) ∧ ∀ j, j + 1 < L → p j ≠ t ∧ isNx f w (p j) (p (j + 1))
theorem PathR_fn {f : Nat → Int} {w : Nat → Nat → Int} {h t : Nat} {p p' : Nat → Nat} {L L' : Nat} (a : PathR f w h t p L) (b : PathR f w h t p' L') : L = L' ∧ ∀ j, j < L → p j = p' j := by
  obtain ⟨a1, a2, a3, a4, -, a5⟩ := a
  obtain ⟨b1, b2, b3, b4, -, b5⟩ := b
  have key : ∀ j, j < L → j < L' → p j = p' j := by
    intro j
    induction j with
    | zero => intro _ _; rw [a1, b1]
    | succ j ih =>
      intro h1 h2
      have e := ih (by omega) (by omega)
      have k1 := (a5 j h1).2
      have k2 := (b5 j h2).2
      rw [e] at k1
      exact isNx_fn k1 k2
  have eL : L = L' := by
    rcases Nat.lt_trichotomy L L' with k | k | k
    · have e := key (L - 1) (by omega) (by omega)
      exact absurd (e.symm.trans a4) (b5 (L - 1) (by omega)).1
    · exact k
    · have e := key (L' - 1) (by omega) (by omega)
      exact absurd (e.trans b4) (a5 (L' - 1) (by omega)).1
  exact ⟨eL, fun j hj => key j hj (by omega)⟩
theorem PathR_f {f g : Nat → Int} {w : Nat → Nat → Int} {h t : Nat} {p : Nat → Nat} {L : Nat} (e : ∀ c, c < 64 → f c = g c) (a : PathR f w h t p L) : PathR g w h t p L := by
  have ok : ∀ c q, c < 64 → (okq f w c q ↔ okq g w c q) := fun c q hc => by
    unfold okq
    constructor
    · rintro ⟨h1, h2, h3⟩
      exact ⟨h1, by rw [← e _ h1]; exact h2, by rw [← e _ h1, ← e _ hc]; exact h3⟩
    · rintro ⟨h1, h2, h3⟩
      exact ⟨h1, by rw [e _ h1]; exact h2, by rw [e _ h1, e _ hc]; exact h3⟩
  refine ⟨a.1, a.2.1, a.2.2.1, a.2.2.2.1, a.2.2.2.2.1, fun j hj => ?_⟩
  obtain ⟨h1, q, hq, e1, e2, e3⟩ := a.2.2.2.2.2 j hj
  have hp := a.2.2.2.2.1 j (by omega)
  exact ⟨h1, q, hq, e1, (ok _ _ hp).mp e2, fun q' hq' z => e3 q' hq' ((ok _ _ hp).mpr z)⟩
/-- no way (L = 0), or the first of the cheapest -/
def PS (op : Nat → Prop) (w : Nat → Nat → Int) (h t : Nat) (x : (Nat → Nat) × Nat) : Prop :=
  (x.2 = 0 ∧ (¬ op t ∨ dis op (bwd w) t 0 h = FAR_)) ∨ (op t ∧ dis op (bwd w) t 0 h < FAR_ ∧ PathR (dis op (bwd w) t 0) w h t x.1 x.2)
theorem PS_fn {op : Nat → Prop} {w : Nat → Nat → Int} {h t : Nat} {x y : (Nat → Nat) × Nat} (a : PS op w h t x) (b : PS op w h t y) : x.2 = y.2 ∧ ∀ j, j < x.2 → x.1 j = y.1 j := by
  rcases a with ⟨a1, a2⟩ | ⟨a1, a2, a3⟩ <;> rcases b with ⟨b1, b2⟩ | ⟨b1, b2, b3⟩
  · exact ⟨a1.trans b1.symm, fun j hj => by omega⟩
  · rcases a2 with a2 | a2
    · exact absurd b1 a2
    · omega
  · rcases b2 with b2 | b2
    · exact absurd a1 b2
    · omega
  · exact PathR_fn a3 b3
noncomputable def pth (op : Nat → Prop) (w : Nat → Nat → Int) (h t : Nat) : (Nat → Nat) × Nat := @Classical.epsilon _ ⟨(fun _ => 0, 0)⟩ (PS op w h t)
theorem pth_eq {op : Nat → Prop} {w : Nat → Nat → Int} {h t : Nat} {x : (Nat → Nat) × Nat} (a : PS op w h t x) : x.2 = (pth op w h t).2 ∧ ∀ j, j < x.2 → x.1 j = (pth op w h t).1 j :=
  PS_fn a (Classical.epsilon_spec_aux ⟨(fun _ => 0, 0)⟩ (PS op w h t) ⟨x, a⟩)
