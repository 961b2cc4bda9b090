set_option maxRecDepth 100000
/-! ===== pointers set: what the rows ask ===== -/
theorem fp_M3 {g : wg_T} {L : ly_T} {σ : st_T} {r i k n q j : Nat} : fp g L (sM_ σ r k i n) r i k (3, q, j) = L q n := by
  show L q (gP_ (sM_ σ r k i n) r k i) = _
  rw [gP_sM, if_neg (fun z => by omega), if_pos ⟨rfl, rfl, rfl⟩]
theorem fp_M4 {g : wg_T} {L : ly_T} {σ : st_T} {r i k n q j : Nat} : fp g L (sM_ σ r k i n) r i k (4, q, j) = if n = 0 then ge g else L q i := by
  show (if gP_ (sM_ σ r k i n) r k i = 0 then ge g else L q i) = _
  have e : gP_ (sM_ σ r k i n) r k i = n := by rw [gP_sM, if_neg (fun z => by omega), if_pos ⟨rfl, rfl, rfl⟩]
  rw [e]
theorem tgd_1 {σ σ' : st_T} {r i k q j : Nat} (h : pr σ q j) : ∀ q' j', tgd σ' r i k (1, q, j) q' j' → pr σ q' j' := by
  rintro q' j' ⟨rfl, rfl⟩; exact h
theorem tgd_2 {σ σ' : st_T} {r i k q j : Nat} (h : pr σ q i) : ∀ q' j', tgd σ' r i k (2, q, j) q' j' → pr σ q' j' := by
  rintro q' j' ⟨rfl, rfl⟩; exact h
theorem tgd_3 {σ : st_T} {r i k n q j : Nat} (h : pr σ q n) : ∀ q' j', tgd (sM_ σ r k i n) r i k (3, q, j) q' j' → pr σ q' j' := by
  rintro q' j' ⟨rfl, rfl⟩
  rw [gP_sM, if_neg (fun z => by omega), if_pos ⟨rfl, rfl, rfl⟩]
  exact h
theorem tgd_4 {σ : st_T} {r i k n q j : Nat} (h : n ≠ 0 → pr σ q i) : ∀ q' j', tgd (sM_ σ r k i n) r i k (4, q, j) q' j' → pr σ q' j' := by
  rintro q' j' ⟨h0, rfl, rfl⟩
  rw [gP_sM, if_neg (fun z => by omega), if_pos ⟨rfl, rfl, rfl⟩] at h0
  exact h h0
