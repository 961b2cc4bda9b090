/-! ===== plain laws: costs over a board ===== -/
set_option maxRecDepth 100000
/-- the cell beside c by way w (0 above, 1 left, 2 right, 3 below); 64: none -/
def nb (c w : Nat) : Nat := match w with
  | 0 => if 8 ≤ c then c - 8 else 64
  | 1 => if 0 < c % 8 then c - 1 else 64
  | 2 => if c % 8 < 7 then c + 1 else 64
  | _ => if c < 56 then c + 8 else 64
def adj (c n : Nat) : Prop := n < 64 ∧ ∃ w, w < 4 ∧ nb c w = n
theorem adj_symm {c n : Nat} (hc : c < 64) (h : adj c n) : adj n c := by
  obtain ⟨hn, w, hw, e⟩ := h
  refine ⟨hc, 3 - w, by omega, ?_⟩
  have key : ∀ c : Fin 64, ∀ w : Fin 4, nb c.val w.val < 64 → nb (nb c.val w.val) (3 - w.val) = c.val := by decide +kernel
  have := key ⟨c, hc⟩ ⟨w, hw⟩ (by show nb c w < 64; omega)
  rw [← e]; exact this
theorem nb_le (c w : Nat) (hc : c < 64) (hw : w < 4) : nb c w ≤ 64 := by
  have key : ∀ c : Fin 64, ∀ w : Fin 4, nb c.val w.val ≤ 64 := by decide +kernel
  exact key ⟨c, hc⟩ ⟨w, hw⟩
abbrev FAR_ : Int := 1000000000
/-- f is what it costs from s on (s itself costs b): the places that are open, what a step costs -/
def LC (op : Nat → Prop) (w : Nat → Nat → Int) (s : Nat) (b : Int) (f : Nat → Int) : Prop :=
  f s = b ∧ (∀ c, c < 64 → b ≤ f c ∧ f c ≤ FAR_) ∧ (∀ n, n < 64 → n ≠ s → ¬ op n → f n = FAR_) ∧
  (∀ c n, c < 64 → f c < FAR_ → adj c n → op n → n ≠ s → f n ≤ f c + w c n) ∧
  (∀ n, n < 64 → n ≠ s → f n < FAR_ → ∃ c, c < 64 ∧ adj c n ∧ f c < FAR_ ∧ f n = f c + w c n)
theorem LC_fn {op : Nat → Prop} {w : Nat → Nat → Int} {s : Nat} {b : Int} {f g : Nat → Int} (hw : ∀ c n, c < 64 → n < 64 → 0 < w c n) (hf : LC op w s b f) (hg : LC op w s b g) : ∀ c, c < 64 → f c = g c := by
  have key : ∀ (k : Nat) (f g : Nat → Int), LC op w s b f → LC op w s b g → ∀ n, n < 64 → f n < FAR_ → (f n - b).toNat < k → g n ≤ f n := by
    intro k
    induction k with
    | zero => intro f g hf hg n hn h h2; omega
    | succ k ih =>
      intro f g hf hg n hn h h2
      by_cases hns : n = s
      · subst hns; rw [hf.1, hg.1]; exact Int.le_refl _
      · obtain ⟨c, hc, ha, hcf, e⟩ := hf.2.2.2.2 n hn hns h
        have hw0 := hw c n hc hn
        have hopn : op n := Classical.byContradiction fun q => by
          have := hf.2.2.1 n hn hns q
          omega
        have hb := (hf.2.1 c hc).1
        have h3 := ih f g hf hg c hc hcf (by omega)
        have h4 := hg.2.2.2.1 c n hc (by omega) ha hopn hns
        omega
  intro c hc
  have a := hf.2.1 c hc
  have a' := hg.2.1 c hc
  by_cases h1 : f c < FAR_
  · have h := key ((f c - b).toNat + 1) f g hf hg c hc h1 (by omega)
    have h' := key ((g c - b).toNat + 1) g f hg hf c hc (by omega) (by omega)
    omega
  · by_cases h2 : g c < FAR_
    · have h' := key ((g c - b).toNat + 1) g f hg hf c hc h2 (by omega)
      omega
    · omega
noncomputable def dis (op : Nat → Prop) (w : Nat → Nat → Int) (s : Nat) (b : Int) : Nat → Int := @Classical.epsilon _ ⟨fun _ => 0⟩ (LC op w s b)
theorem dis_LC {op : Nat → Prop} {w : Nat → Nat → Int} {s : Nat} {b : Int} {f : Nat → Int} (hf : LC op w s b f) : LC op w s b (dis op w s b) := Classical.epsilon_spec_aux ⟨fun _ => 0⟩ (LC op w s b) ⟨f, hf⟩
theorem dis_eq {op : Nat → Prop} {w : Nat → Nat → Int} {s : Nat} {b : Int} {f : Nat → Int} (hw : ∀ c n, c < 64 → n < 64 → 0 < w c n) (hf : LC op w s b f) : ∀ c, c < 64 → f c = dis op w s b c :=
  LC_fn hw hf (dis_LC hf)
/-! the board in numbers of 32 bits; where a board is gone through until nothing more falls -/
/-- what holds on the way: every cost comes from a neighbour that costs no more than the step less -/
def LJ (op : Nat → Prop) (w : Nat → Nat → Int) (s : Nat) (b : Int) (f : Nat → Int) : Prop :=
  f s = b ∧ (∀ c, c < 64 → b ≤ f c ∧ f c ≤ FAR_) ∧ (∀ n, n < 64 → n ≠ s → ¬ op n → f n = FAR_) ∧
  (∀ n, n < 64 → n ≠ s → f n < FAR_ → ∃ c, c < 64 ∧ adj c n ∧ f c < FAR_ ∧ f c + w c n ≤ f n)
theorem LJ.LC {op : Nat → Prop} {w : Nat → Nat → Int} {s : Nat} {b : Int} {f : Nat → Int} (h : LJ op w s b f) (hr : ∀ c n, c < 64 → f c < FAR_ → adj c n → op n → n ≠ s → f n ≤ f c + w c n) : LC op w s b f := by
  refine ⟨h.1, h.2.1, h.2.2.1, hr, fun n hn hns hF => ?_⟩
  obtain ⟨c, hc, ha, hcF, e⟩ := h.2.2.2 n hn hns hF
  refine ⟨c, hc, ha, hcF, ?_⟩
  have hop : op n := Classical.byContradiction fun q => by
    have := h.2.2.1 n hn hns q
    omega
  have := hr c n hc hcF ha hop hns
  omega
theorem LJ.start {op : Nat → Prop} {w : Nat → Nat → Int} {s : Nat} {b : Int} {f : Nat → Int} (hb : b ≤ FAR_) (h0 : f s = b) (h1 : ∀ c, c < 64 → c ≠ s → f c = FAR_) : LJ op w s b f := by
  refine ⟨h0, fun c hc => ?_, fun n hn hns _ => h1 n hn hns, fun n hn hns hF => ?_⟩
  · by_cases e : c = s
    · subst e; omega
    · have := h1 c hc e; omega
  · have := h1 n hn hns; omega
/-- one cost falls -/
theorem LJ.relax {op : Nat → Prop} {w : Nat → Nat → Int} {s : Nat} {b : Int} {f g : Nat → Int} {c n : Nat} (hw : ∀ c n, c < 64 → n < 64 → 0 < w c n) (h : LJ op w s b f) (hc : c < 64) (hcF : f c < FAR_) (ha : adj c n) (hop : op n) (hlt : f c + w c n < f n) (hg : ∀ k, k < 64 → g k = if k = n then f c + w c n else f k) (hs : s < 64) : LJ op w s b g ∧ n ≠ s ∧ n ≠ c := by
  have hn := ha.1
  have hwc := hw c n hc hn
  have hbc := (h.2.1 c hc).1
  have hns : n ≠ s := fun q => by subst q; rw [h.1] at hlt; omega
  have hnc : n ≠ c := fun q => by subst q; omega
  refine ⟨⟨?_, fun k hk => ?_, fun k hk hks hop' => ?_, fun k hk hks hF => ?_⟩, hns, hnc⟩
  · rw [hg s hs, if_neg (fun q => hns q.symm)]; exact h.1
  · rw [hg k hk]
    have := h.2.1 k hk
    have h2 := h.2.1 n hn
    by_cases e : k = n
    · rw [if_pos e]; omega
    · rw [if_neg e]; exact this
  · rw [hg k hk]
    have hkn : k ≠ n := fun q => hop' (q ▸ hop)
    rw [if_neg hkn]; exact h.2.2.1 k hk hks hop'
  · rw [hg k hk] at hF ⊢
    by_cases e : k = n
    · subst e
      rw [if_pos rfl] at hF ⊢
      refine ⟨c, hc, ha, ?_, ?_⟩
      · rw [hg c hc, if_neg (fun q => hnc q.symm)]; exact hcF
      · rw [hg c hc, if_neg (fun q => hnc q.symm)]; exact Int.le_refl _
    · rw [if_neg e] at hF ⊢
      obtain ⟨d, hd, had, hdF, ed⟩ := h.2.2.2 k hk hks hF
      refine ⟨d, hd, had, ?_, ?_⟩
      · rw [hg d hd]
        by_cases e2 : d = n
        · rw [if_pos e2]; subst e2; omega
        · rw [if_neg e2]; exact hdF
      · rw [hg d hd]
        by_cases e2 : d = n
        · rw [if_pos e2]; subst e2; omega
        · rw [if_neg e2]; exact ed
