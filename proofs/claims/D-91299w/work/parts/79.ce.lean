/-! ===== the component: fear, nights foretold, a land like another ===== -/
set_option maxRecDepth 100000
def wcC (σ : st_T) : Nat → Nat := fun j => (gA_ σ 22 0 j).toInt.toNat
def nwC (σ : st_T) : Nat := (gF_ σ 1 34 0).toInt.toNat
def okW (σ : st_T) : Prop := 0 ≤ (gF_ σ 1 34 0).toInt ∧ nwC σ ≤ 10 ∧ ∀ j, j < nwC σ → 0 ≤ (gA_ σ 22 0 j).toInt ∧ wcC σ j < 64
theorem okC.F {σ : st_T} {i li : Nat} (h : okC σ i li) (E : ar_T) (hE : okX (vC (sA_ σ 55 i E) i li 0)) : okC (sA_ σ 55 i E) i li := h.fr (frP.sA (by omega)) hE
theorem vC_55 {σ : st_T} {i li : Nat} {T : Int32} {E : ar_T} : vC (sA_ σ 55 i E) i li T = (sS (vC σ i li T), cut 64 E, sN (vC σ i li T), sL (vC σ i li T), T) := by
  unfold vC
  rw [gA_same, gA_ne (by decide), gA_ne (by decide), fnC_of (σ := σ) (σ' := sA_ σ 55 i E) (gA_ne (by decide)) (gA_ne (by decide))]
theorem X1_watch {σ : st_T} {i : Nat} (hi : i < 3) (hq : rq σ < gN_ σ 87) (hw : okW σ) : m_X1_watch σ i = some (sA_ σ 55 i (frL (gF_ σ 87 4 (rq σ)) (wcC σ) (nwC σ) (gA_ σ 55 i))) := by
  obtain ⟨a1, a2, a3⟩ := hw
  have ea : gF_ σ 1 34 0 = I_ (nwC σ) := I_of a1
  unfold m_X1_watch
  obtain ⟨σ1, e1, h1⟩ := upto (N := nwC σ) (lp := fun m (σ' : st_T) k => m_X1_watch_L2 i m σ' (I_ k)) (k := fun σ' => some σ')
    (inv := fun k σ' => σ' = sA_ σ 55 i (frL (gF_ σ 87 4 (rq σ)) (wcC σ) k (gA_ σ 55 i)))
    (fun m σ' hh => by
      show m_X1_watch_L2 _ (m + 1) _ _ = _
      rw [m_X1_watch_L2, if_pos (by rw [hh, gF_sA, ea, i_le]; exact Int.le_refl _)])
    (fun k m σ' hk hh => by
      refine ⟨_, ?_, rfl⟩
      show m_X1_watch_L2 _ (m + 1) _ _ = _
      have ek : (I_ k).toNatClampNeg = k := I_nat (by omega)
      have ec : gA_ σ 22 0 k = I_ (wcC σ k) := I_of (a3 k hk).1
      have eq : gP_ σ' 1 31 0 = rq σ := by rw [hh]; rfl
      have eN : gN_ σ' = gN_ σ := by rw [hh]; rfl
      have e22 : gA_ σ' 22 0 = gA_ σ 22 0 := by rw [hh, gA_ne (by decide)]
      have eF : gF_ σ' = gF_ σ := by rw [hh]; rfl
      rw [m_X1_watch_L2, if_neg (fun z => by rw [eF, ea] at z; exact absurd ((I_le (by omega) (by omega)).mp z) (by omega)), if_pos ((I_inb (by omega)).mpr (by omega)), eq, eN, if_pos hq, ek, e22, ec, eF, X2_frightens hi (a3 k hk).2, Option.bind_some, if_pos hi, I_one, hh, gA_same, sA_sA]
      rfl)
    0 fu_ σ (by omega) (fu_big (by omega)) (by rw [frL, sA_id])
  have e1 : m_X1_watch_L2 i fu_ σ 0 = _ := e1
  rw [e1, h1]
abbrev nP22 : Nat → Nat → Prop := fun r k => r = 1 ∧ k = 22
theorem frP.P22 {A F : Nat → Nat → Prop} {σ σ' : st_T} (h : frP A F nCP σ σ') : frP A F nP22 σ σ' := h.mono (fun _ _ z => z) (fun _ _ z => z) (fun _ _ z => absurd z id)
/-- some nights foretold on the land 1 -/
theorem X1_foretells {σ : st_T} (h : okC (sP_ σ 1 22 0 1) 1 1) (hw : okW σ) (hn : 0 ≤ (gF_ σ 1 33 0).toInt ∧ (gF_ σ 1 33 0).toInt < 900000) {k : Nat} (hk : 1 ≤ k ∧ k ≤ 5) :
    ∃ σ' v, m_X1_foretells σ (I_ k) = some (v, σ') ∧ vC σ' 1 1 v = nsS (envC σ 1) (gF_ σ 1 33 0) k (feS (eSc (envC σ 1)) (wcC σ) (nwC σ) (fun _ => 0) 0 (clS (vC σ 1 1 0))) ∧ frP (nC 1 1) nCF nP22 σ σ' ∧ okC σ' 1 1 := by
  unfold m_X1_foretells
  rw [lt_def]
  have f0 : frP (nC 1 1) nCF nP22 σ (sP_ σ 1 22 0 1) := ⟨fun _ _ _ => rfl, fun _ _ _ _ => rfl, fun r k j hr => by rw [gP_sP, if_neg (fun z => hr ⟨z.1, z.2.1⟩)], rfl, rfl⟩
  have m0 : envC (sP_ σ 1 22 0 1) 1 = envC σ 1 := by
    have hP : ∀ r k j, (r ≠ 1 ∨ k ≠ 22) → gP_ (sP_ σ 1 22 0 1) r k j = gP_ σ r k j := fun r k j hr => f0.2.2.1 r k j (by omega)
    unfold envC lkC
    simp only [rq, hq, hP 1 31 0 (by decide), hP 71 _ _ (Or.inl (by decide)), gA_sP, gF_sP]
  have v0 : vC (sP_ σ 1 22 0 1) 1 1 0 = vC σ 1 1 0 := rfl
  have w0 : okW (sP_ σ 1 22 0 1) := hw
  have n0 : gF_ (sP_ σ 1 22 0 1) 1 33 0 = gF_ σ 1 33 0 := rfl
  have x0 : wcC (sP_ σ 1 22 0 1) = wcC σ ∧ nwC (sP_ σ 1 22 0 1) = nwC σ := ⟨rfl, rfl⟩
  rw [← m0, ← v0, ← n0, ← x0.1, ← x0.2]
  have hn' := hn
  rw [← n0] at hn'
  generalize hσ0 : sP_ σ 1 22 0 1 = σ0 at *
  clear hw hn m0 v0 n0 x0
  obtain ⟨-, hi, hli, hgl⟩ := h.2.2.1
  obtain ⟨σ1, e1, h1⟩ := upto (N := 10) (lp := fun n (σ' : st_T) c => m_X1_foretells_L10 n σ' (I_ k) (I_ c)) (k := fun σ' => (m_X1_watch σ' 1).bind fun σ13 => (m_X1_foretells_L41 fu_) σ13 (I_ k) (0 : Int32) (0 : Int32))
    (inv := fun c σ' => σ' = sA_ σ0 32 1 (fil c (fun _ => 0) (gA_ σ0 32 1)))
    (fun n σ' _ => by show m_X1_foretells_L10 (n + 1) _ _ _ = _; rw [m_X1_foretells_L10, if_pos ((le_10 (by omega)).mpr (Nat.le_refl _))])
    (fun c n σ' hc hh => by
      refine ⟨_, ?_, rfl⟩
      show m_X1_foretells_L10 (n + 1) _ _ _ = _
      have ec : (I_ c).toNatClampNeg = c := I_nat (by omega)
      have eg : gP_ σ' 1 22 0 = 1 := by rw [hh]; exact hgl
      rw [m_X1_foretells_L10, if_neg (fun q => absurd ((le_10 (by omega)).mp q) (by omega)), eg, if_pos hli, if_pos ((I_inb (by omega)).mpr hc), lt_def, ec, I_one, hh, sE_up, fil_s (v := fun _ => (0 : Int32))])
    0 fu_ σ0 (by omega) (fu_big (by omega)) (by rw [fil_0, sA_id])
  have e1 : m_X1_foretells_L10 fu_ σ0 (I_ k) 0 = _ := e1
  have f1 : frP (nC 1 1) nCF nCP σ0 σ1 := by rw [h1]; exact frP.sA (by omega)
  have v1 : vC σ1 1 1 0 = clS (vC σ0 1 1 0) := by
    rw [h1]
    unfold vC clS
    rw [gA_same, gA_ne (by decide), gA_ne (by decide), fnC_of (σ := σ0) (σ' := sA_ σ0 32 1 _) (gA_ne (by decide)) (gA_ne (by decide))]
    have : cut 10 (fil 10 (fun _ => 0) (gA_ σ0 32 1)) = fun _ => 0 := by
      funext j
      unfold cut
      by_cases z : j < 10
      · rw [if_pos z, fil_at z]
      · rw [if_neg z]
    rw [this]
  have o1 : okC σ1 1 1 := h.fr f1 (by rw [v1]; exact ⟨h.2.1.1, h.2.1.2.1, h.2.1.2.2⟩)
  have w1 : okW σ1 := by rw [h1]; exact w0
  have x1 : wcC σ1 = wcC σ0 ∧ nwC σ1 = nwC σ0 := by rw [h1]; exact ⟨rfl, rfl⟩
  have m1 : envC σ1 1 = envC σ0 1 := envC_fr f1
  have n1 : gF_ σ1 1 33 0 = gF_ σ0 1 33 0 := by rw [h1]; rfl
  rw [e1, X1_watch hi o1.2.2.2.1.1 w1, Option.bind_some]
  have f2 : frP (nC 1 1) nCF nCP σ1 (sA_ σ1 55 1 (frL (gF_ σ1 87 4 (rq σ1)) (wcC σ1) (nwC σ1) (gA_ σ1 55 1))) := frP.sA (by omega)
  have v2 : ∀ T, vC (sA_ σ1 55 1 (frL (gF_ σ1 87 4 (rq σ1)) (wcC σ1) (nwC σ1) (gA_ σ1 55 1))) 1 1 T = feS (eSc (envC σ0 1)) (wcC σ0) (nwC σ0) (fun _ => 0) 0 (vC σ1 1 1 T) := fun T => by
    rw [vC_55, frL_cut _ (fun j hj => (w1.2.2 j hj).2)]
    unfold feS
    rw [← m1, ← x1.1, ← x1.2]
    rfl
  have o2 := o1.fr f2 (by rw [v2]; exact okX.fe h.1 o1.2.1)
  have m2 : envC (sA_ σ1 55 1 (frL (gF_ σ1 87 4 (rq σ1)) (wcC σ1) (nwC σ1) (gA_ σ1 55 1))) 1 = envC σ0 1 := (envC_fr f2).trans m1
  have n2 : gF_ (sA_ σ1 55 1 (frL (gF_ σ1 87 4 (rq σ1)) (wcC σ1) (nwC σ1) (gA_ σ1 55 1))) 1 33 0 = gF_ σ0 1 33 0 := n1
  have v2' := v2 0
  rw [v1] at v2'
  have f3 := f1.tr f2
  generalize sA_ σ1 55 1 (frL (gF_ σ1 87 4 (rq σ1)) (wcC σ1) (nwC σ1) (gA_ σ1 55 1)) = σ2 at o2 m2 n2 v2' f3
  have nit : ∀ j, j < 5 → 0 ≤ (gF_ σ0 1 33 0 + I_ j).toInt ∧ (gF_ σ0 1 33 0 + I_ j).toInt < 1000000 := fun j hj => by
    rw [i_add (by rw [I_int (by omega)]; omega) (by rw [I_int (by omega)]; omega), I_int (by omega)]; omega
  obtain ⟨s', e, h4, f4, o4⟩ := upto (N := k) (S := st_T × Int32) (lp := fun m s j => m_X1_foretells_L41 m s.1 (I_ k) s.2 (I_ j)) (k := fun s => some (s.2, s.1))
    (inv := fun j s => vC s.1 1 1 s.2 = nsS (envC σ0 1) (gF_ σ0 1 33 0) j (feS (eSc (envC σ0 1)) (wcC σ0) (nwC σ0) (fun _ => 0) 0 (clS (vC σ0 1 1 0))) ∧ frP (nC 1 1) nCF nCP σ0 s.1 ∧ okC s.1 1 1)
    (fun m s hh => by
      show m_X1_foretells_L41 (m + 1) _ _ _ _ = _
      rw [m_X1_foretells_L41, if_pos (by rw [i_le]; exact Int.le_refl _)])
    (fun j m s hj hh => by
      obtain ⟨hv, hf, ho⟩ := hh
      show ∃ s', m_X1_foretells_L41 (m + 1) _ _ _ _ = _ ∧ _
      have en : gF_ s.1 1 33 0 = gF_ σ0 1 33 0 := hf.2.1 1 33 0 (by omega)
      obtain ⟨σ3, v3, σ4, e3, g3, e4, h3, fr4, ok4, -⟩ := X1_night1 ho (nit j (by omega))
      rw [m_X1_foretells_L41, if_neg (fun z => absurd ((I_le (by omega) (by omega)).mp z) (by omega)), en, e3, bn2_def, if_pos g3, e4, Option.bind_some, I_one]
      refine ⟨(σ4, s.2 + v3), rfl, ?_, hf.tr fr4, ok4⟩
      show vC σ4 1 1 (s.2 + v3) = _
      rw [h3, hv, envC_fr hf]
      rfl)
    0 fu_ (σ2, 0) (by omega) (fu_big (by omega)) ⟨v2', f3, o2⟩
  have e : m_X1_foretells_L41 fu_ σ2 (I_ k) 0 0 = _ := e
  rw [e]
  exact ⟨s'.1, s'.2, rfl, h4, f0.tr f4.P22, o4⟩
/-- a land made like another -/
def cpL (a b : Nat) : List Nat → st_T → st_T
  | [], σ => σ
  | r :: l, σ => cpL a b l (sA_ σ r a (va_cpy (gA_ σ r b) (gA_ σ r a) 0 0 64))
theorem cpL_fr {a b : Nat} : ∀ (l : List Nat) (σ : st_T), frP (fun r j => r ∈ l ∧ j = a) nO nO σ (cpL a b l σ) := by
  intro l
  induction l with
  | nil => intro σ; exact frP.rf
  | cons r l ih =>
    intro σ
    refine frP.tr (frP.sA ⟨List.mem_cons_self, rfl⟩) ((ih _).mono (fun r j z => ⟨List.mem_cons_of_mem _ z.1, z.2⟩) (fun _ _ z => z) (fun _ _ z => z))
theorem cpL_at {a b : Nat} (hab : a ≠ b) : ∀ (l : List Nat) (σ : st_T) (r : Nat), r ∈ l → ∀ j, j < 64 → gA_ (cpL a b l σ) r a j = gA_ σ r b j := by
  intro l
  induction l with
  | nil => intro σ r hr; cases hr
  | cons q l ih =>
    intro σ r hr j hj
    show gA_ (cpL a b l _) r a j = _
    by_cases z : r ∈ l
    · rw [ih _ r z j hj, gA_ni (Ne.symm hab)]
    · have hrq : r = q := by
        rcases List.mem_cons.mp hr with h | h
        · exact h
        · exact absurd h z
      subst hrq
      rw [(cpL_fr l _).1 r a (fun q => z q.1), gA_same, pk_cpy_in (Nat.zero_le _) (by omega)]
      congr 1; omega
abbrev lkL : List Nat := [51, 52, 53, 54, 55, 56, 57, 58, 59]
theorem X2_like {σ : st_T} {a b : Nat} (ha : a < 3) (hb : b < 3) : m_X2_like σ a b = some (cpL a b lkL σ) := by
  unfold m_X2_like
  rw [if_pos hb, if_pos ha]
  rfl
