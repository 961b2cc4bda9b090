set_option maxRecDepth 100000
/-! ===== what is made ===== -/
/-- cells and slots used so far (they ride in the store, region 250) -/
abbrev cu_ (σ : st_T) : Nat := gP_ σ 250 0 0
abbrev su_ (σ : st_T) : Nat := gP_ σ 250 1 0
def bP_ (σ : st_T) (a b : Nat) (f : Nat → Nat → Nat → Nat) : Nat → Nat → Nat → Nat := fun r k i => if r = 250 then (if k = 0 then cu_ σ + a else if k = 1 then su_ σ + b else gP_ σ r k i) else f r k i
/-- an array of its own region, nought in it -/
def nA_ (σ : st_T) (r len : Nat) : st_T := (σ.1, fun r' i' => if r' = r ∧ i' = gN_ σ (ow_ r) then (fun _ => 0) else gA_ σ r' i', bP_ σ 1 len (fun r' k' i' => if r' = r ∧ k' = 0 ∧ i' = gN_ σ (ow_ r) then len else gP_ σ r' k' i'), fun o => if o = ow_ r then gN_ σ o + 1 else gN_ σ o, gO_ σ)
/-- a blank object of tag t, N fields -/
def nO_ (σ : st_T) (r t N : Nat) : st_T := (fun r' k' i' => if r' = r ∧ i' = gN_ σ (ow_ r) then 0 else gF_ σ r' k' i', σ.2.1, bP_ σ 1 N (fun r' k' i' => if r' = r ∧ i' = gN_ σ (ow_ r) then (if k' = 199 then t else 0) else gP_ σ r' k' i'), fun o => if o = ow_ r then gN_ σ o + 1 else gN_ σ o, gO_ σ)
/-- a throw's cells -/
def bX_ (σ : st_T) : st_T := (σ.1, σ.2.1, bP_ σ 1 6 (gP_ σ), σ.2.2.2)
section
variable (σ : st_T) (r t N len r' k' i' a b : Nat) (f : Nat → Nat → Nat → Nat)
theorem bP_ne (h : r' ≠ 250) : bP_ σ a b f r' k' i' = f r' k' i' := by unfold bP_; rw [if_neg h]
theorem gF_nA : gF_ (nA_ σ r len) = gF_ σ := rfl
theorem gA_nA : gA_ (nA_ σ r len) r' i' = if r' = r ∧ i' = gN_ σ (ow_ r) then (fun _ => 0) else gA_ σ r' i' := rfl
theorem gP_nA (h : r' ≠ 250) : gP_ (nA_ σ r len) r' k' i' = if r' = r ∧ k' = 0 ∧ i' = gN_ σ (ow_ r) then len else gP_ σ r' k' i' := by unfold gP_ nA_ bP_; exact if_neg h
theorem gN_nA : gN_ (nA_ σ r len) k' = if k' = ow_ r then gN_ σ k' + 1 else gN_ σ k' := rfl
theorem gO_nA : gO_ (nA_ σ r len) = gO_ σ := rfl
theorem gF_nO : gF_ (nO_ σ r t N) r' k' i' = if r' = r ∧ i' = gN_ σ (ow_ r) then 0 else gF_ σ r' k' i' := rfl
theorem gA_nO : gA_ (nO_ σ r t N) = gA_ σ := rfl
theorem gP_nO (h : r' ≠ 250) : gP_ (nO_ σ r t N) r' k' i' = if r' = r ∧ i' = gN_ σ (ow_ r) then (if k' = 199 then t else 0) else gP_ σ r' k' i' := by unfold gP_ nO_ bP_; exact if_neg h
theorem gN_nO : gN_ (nO_ σ r t N) k' = if k' = ow_ r then gN_ σ k' + 1 else gN_ σ k' := rfl
theorem gO_nO : gO_ (nO_ σ r t N) = gO_ σ := rfl
end
def lset (L : ly_T) (r n a : Nat) : ly_T := fun r' i' => if r' = r ∧ i' = n then a else L r' i'
/-- what stood keeps its address (but lists' arrays), nothing goes, nothing is given back -/
def lext (L : ly_T) (σ : st_T) (L' : ly_T) (σ' : st_T) : Prop := (∀ r i : Nat, pr σ r i → (rK r).1 ≠ 5 → L' r i = L r i) ∧ (∀ o : Nat, gN_ σ o ≤ gN_ σ' o) ∧ cu_ σ ≤ cu_ σ' ∧ su_ σ ≤ su_ σ'
theorem pr_le {σ σ' : st_T} (h : ∀ o : Nat, gN_ σ o ≤ gN_ σ' o) {r i : Nat} (hp : pr σ r i) : pr σ' r i := by
  unfold pr at hp ⊢
  exact Nat.lt_of_lt_of_le hp (Nat.mul_le_mul_left _ (h _))
theorem lext.rfl' {L : ly_T} {σ σ' : st_T} (hN : gN_ σ' = gN_ σ) (hP : ∀ k, gP_ σ' 250 k 0 = gP_ σ 250 k 0) : lext L σ L σ' := ⟨fun _ _ _ _ => rfl, fun o => by rw [hN]; exact Nat.le_refl _, Nat.le_of_eq (hP 0).symm, Nat.le_of_eq (hP 1).symm⟩
theorem lext.refl {L : ly_T} {σ : st_T} : lext L σ L σ := lext.rfl' rfl (fun _ => rfl)
theorem lext.trans {L L1 L2 : ly_T} {σ σ1 σ2 : st_T} (h1 : lext L σ L1 σ1) (h2 : lext L1 σ1 L2 σ2) : lext L σ L2 σ2 :=
  ⟨fun r i hp hk => (h2.1 r i (pr_le h1.2.1 hp) hk).trans (h1.1 r i hp hk), fun o => Nat.le_trans (h1.2.1 o) (h2.2.1 o), Nat.le_trans h1.2.2.1 h2.2.2.1, Nat.le_trans h1.2.2.2 h2.2.2.2⟩
theorem lext.prs {L L1 : ly_T} {σ σ1 : st_T} (h : lext L σ L1 σ1) {r i : Nat} (hp : pr σ r i) : pr σ1 r i := pr_le h.2.1 hp
theorem lext.at {L L1 : ly_T} {σ σ1 : st_T} (h : lext L σ L1 σ1) {r i : Nat} (hp : pr σ r i) (hk : (rK r).1 ≠ 5) : L1 r i = L r i := h.1 r i hp hk
theorem tg_ext {σ σ' : st_T} {r i : Nat} (hP : ∀ k, gP_ σ' r k i = gP_ σ r k i) {q j : Nat} (h : tg σ' r i q j) : tg σ r i q j := by
  rcases h with ⟨ci, fk, k, d, h1, h2, h3, h4⟩ | h | ⟨n, c, h1, h2, h3⟩
  · refine Or.inl ⟨ci, fk, k, d, ?_, h2, by rw [← hP]; exact h3, ?_⟩
    · unfold obv at h1 ⊢
      rw [← hP]
      exact h1
    · unfold tgd at h4 ⊢
      rw [← hP]
      exact h4
  · exact Or.inr (Or.inl h)
  · exact Or.inr (Or.inr ⟨n, c, h1, by rw [← hP]; exact h2, by rw [← hP]; exact h3⟩)
theorem fvl_lay {g : wg_T} {L L' : ly_T} {σ : st_T} {r i : Nat} {fk : List (Nat × Nat × Nat)} (h : ∀ k d, fk[k]? = some d → gP_ σ r (200 + k) i ≠ 0 → ∀ q j, tgd σ r i k d q j → L' q j = L q j) : fvl g L' σ fk r i = fvl g L σ fk r i := by
  apply List.ext_getElem?
  intro n
  unfold fvl
  rw [List.getElem?_mapIdx, List.getElem?_mapIdx]
  cases hf : fk[n]? with
  | none => rfl
  | some d =>
    refine congrArg some ?_
    show fv g L' σ r i n d = fv g L σ r i n d
    unfold fv
    by_cases h0 : d.1 = 0
    · rw [if_pos h0, if_pos h0]
    · rw [if_neg h0, if_neg h0]
      by_cases h1 : gP_ σ r (200 + n) i = 0
      · rw [if_pos h1, if_pos h1]
      · rw [if_neg h1, if_neg h1]
        have k := h n d hf h1
        refine congrArg Value.ref ?_
        obtain ⟨a, q, j⟩ := d
        match a, h0, k with
        | 0, h0, _ => exact absurd rfl h0
        | 1, _, k => exact k q j ⟨rfl, rfl⟩
        | 2, _, k => exact k q i ⟨rfl, rfl⟩
        | 3, _, k => exact k q _ ⟨rfl, rfl⟩
        | a + 4, _, k =>
          show (if gP_ σ r n i = 0 then ge g else L' q i) = (if gP_ σ r n i = 0 then ge g else L q i)
          by_cases z : gP_ σ r n i = 0
          · rw [if_pos z, if_pos z]
          · rw [if_neg z, if_neg z]
            exact k q i ⟨z, rfl, rfl⟩
theorem wE_lay {g : wg_T} {L L' : ly_T} {σ : st_T} {r i : Nat} (h : ∀ q j, tg σ r i q j → L' q j = L q j) : wE g L' σ r i = wE g L σ r i := by
  rcases hk : rK r with ⟨a, b, c⟩
  match a, hk with
  | 0, hk => rw [wE_0 hk, wE_0 hk, fvl_lay (fun k d hf hp q j ht => h q j (Or.inl ⟨_, _, k, d, obv_0 hk, hf, hp, ht⟩))]
  | 1, hk => rw [wE_1 hk, wE_1 hk]
  | 2, hk => rw [wE_2 hk, wE_2 hk]
  | 3, hk =>
    rw [wE_3 hk, wE_3 hk]
    refine congrArg (fun f : Nat → Option Nat => (Sum.inl (gC g 4, c, Sum.inr (Sum.inr (Sum.inr (Sum.inr f)))) : va_E)) (funext fun j => ?_)
    by_cases z : j < c
    · rw [if_pos z, if_pos z, h b (c * i + j) (Or.inr (Or.inl ⟨j, c, j, Or.inl hk, rfl, z, rfl⟩))]
    · rw [if_neg z, if_neg z]
  | 4, hk =>
    rw [wE_4 hk, wE_4 hk]
    refine congrArg (fun f : Nat → Option Nat => (Sum.inl (gC g 5, c, Sum.inr (Sum.inr (Sum.inr (Sum.inr f)))) : va_E)) (funext fun j => ?_)
    by_cases z : j < c
    · rw [if_pos z, if_pos z, h b (c * i + j) (Or.inr (Or.inl ⟨j, c, j, Or.inr hk, rfl, z, rfl⟩))]
    · rw [if_neg z, if_neg z]
  | 5, hk =>
    rw [wE_5 hk, wE_5 hk]
    refine congrArg (fun f : Nat → Option Nat => (Sum.inl (gC g 6, gP_ σ r 0 i, Sum.inr (Sum.inr (Sum.inr (Sum.inr f)))) : va_E)) (funext fun j => ?_)
    by_cases z : j < gP_ σ r 1 i
    · rw [if_pos z, if_pos z, h b (gP_ σ r (2 + j) i) (Or.inr (Or.inr ⟨c, j, hk, z, rfl⟩))]
    · rw [if_neg z, if_neg z]
  | 6, hk => rw [wE_6 hk, wE_6 hk, fvl_lay (fun k d hf hp q j ht => h q j (Or.inl ⟨_, _, k, d, obv_6 hk rfl, hf, hp, ht⟩))]
  | a + 7, hk => unfold wE; rw [hk]; rfl
theorem tg_arr {σ : st_T} {r i q j : Nat} (h : (rK r).1 = 1 ∨ (rK r).1 = 2) : ¬ tg σ r i q j := by
  rintro (⟨ci, fk, k, d, (⟨b, h1, -⟩ | ⟨a, b, h1, -⟩), -⟩ | ⟨t, n, c, (h1 | h1), -⟩ | ⟨n, c, h1, -⟩) <;> rw [h1] at h <;> rcases h with h | h <;> cases h
/-- one cell more -/
theorem wv.push {g : wg_T} {L : ly_T} {σ : st_T} {s : State} {H : Heap} {locs : List Loc} (hW : wv g L σ s H locs) {H1 : Heap} {σ' : st_T} {L' : ly_T} {r n : Nat} (hz : H1.size = H.size + 1) (hk : ∀ q : Nat, q < H.size → H1[q]? = H[q]?) (hL : ∀ r' i', pr σ r' i' → L' r' i' = L r' i') (hn : L' r n = H.size) (hnew : va_at (gD g) wcl (H.size, wE g L' σ' r n) H1) (hpr : ∀ r' i', pr σ' r' i' → pr σ r' i' ∨ (r' = r ∧ i' = n)) (hmono : ∀ r' i', pr σ r' i' → pr σ' r' i')
    (hold : ∀ r' i', pr σ r' i' → (∀ k, gF_ σ' r' k i' = gF_ σ r' k i') ∧ gA_ σ' r' i' = gA_ σ r' i' ∧ ∀ k, gP_ σ' r' k i' = gP_ σ r' k i') (hO : gO_ σ' = gO_ σ) (hnt : ∀ q j, ¬ tg σ' r n q j) (hrd : gm g = true → rdy σ → rdy σ') : wv g L' σ' s H1 locs := by
  have hzz : gz g ≤ H.size := Nat.le_trans hW.2.2.2 hW.2.2.1.1
  refine ⟨hW.1, ⟨fun r' i' hp => ?_, fun r1 i1 r2 i2 h1 h2 he => ?_, fun r' i' hp q j ht => ?_, fun hg => hrd hg (hW.2.1.2.2.2 hg)⟩, ⟨by rw [hz]; exact Nat.le_succ_of_le hW.2.2.1.1, fun q h1 h2 => (hk q (Nat.lt_of_lt_of_le h1 hW.2.2.1.1)).trans (hW.2.2.1.2.1 q h1 h2), hW.2.2.1.2.2⟩, hW.2.2.2⟩
  · rcases hpr r' i' hp with h | ⟨rfl, rfl⟩
    · have e1 : wE g L' σ' r' i' = wE g L σ r' i' := by
        obtain ⟨a1, a2, a3⟩ := hold r' i' h
        refine Eq.trans (wE_lay fun q j ht => hL q j (hW.2.1.2.2.1 r' i' h q j (tg_ext a3 ht))) (wE_ext a1 a2 a3 hO)
      rw [hL r' i' h, e1]
      exact ⟨(hW.2.1.1 r' i' h).1.kept (hk _ (hW.2.1.1 r' i' h).1.lt), (hW.2.1.1 r' i' h).2⟩
    · rw [hn]
      exact ⟨hnew, hzz⟩
  · rcases hpr r1 i1 h1 with k1 | ⟨rfl, rfl⟩ <;> rcases hpr r2 i2 h2 with k2 | ⟨rfl, rfl⟩
    · rw [hL _ _ k1, hL _ _ k2] at he
      exact hW.2.1.2.1 _ _ _ _ k1 k2 he
    · rw [hL _ _ k1, hn] at he
      exact absurd (hW.2.1.1 _ _ k1).1.lt (by show ¬ L r1 i1 < _; omega)
    · rw [hL _ _ k2, hn] at he
      exact absurd (hW.2.1.1 _ _ k2).1.lt (by show ¬ L r2 i2 < _; omega)
    · exact ⟨rfl, rfl⟩
  · rcases hpr r' i' hp with h | ⟨rfl, rfl⟩
    · exact hmono _ _ (hW.2.1.2.2.1 r' i' h q j (tg_ext (hold r' i' h).2.2 ht))
    · exact absurd ht (hnt q j)
/-- an owner of one region only -/
abbrev sole_ (r : Nat) : Prop := mu_ r = 1 ∧ r ≠ 250 ∧ ∀ r', ow_ r' = ow_ r → r' = r
theorem sole_of {r : Nat} (h : r < 220) (h1 : mu_ r = 1) (h3 : ow_ r ≠ 3) (ha : ((List.range 220).all fun r' => !(ow_ r' == ow_ r) || r' == r) = true) : sole_ r := by
  refine ⟨h1, by omega, fun r' h' => ?_⟩
  by_cases z : r' < 220
  · have := List.all_eq_true.mp ha r' (List.mem_range.mpr z)
    simp [h'] at this
    exact this
  · refine absurd h' (fun e => h3 ?_)
    rw [← e]
    unfold ow_ rt_
    rw [List.getD_eq_getElem?_getD, List.getElem?_eq_none (Nat.le_trans (Nat.le_of_ble_eq_true rfl) (Nat.not_lt.mp z))]
    rfl
theorem no250 {σ : st_T} {i : Nat} : ¬ pr σ 250 i := by
  unfold pr
  rw [show mu_ 250 = 0 from rfl, Nat.zero_mul]
  exact Nat.not_lt_zero _
theorem pr_own {σ σ' : st_T} {r : Nat} (hs : sole_ r) (hN : gN_ σ' = fun o => if o = ow_ r then gN_ σ o + 1 else gN_ σ o) {r' i' : Nat} (hp : pr σ' r' i') : pr σ r' i' ∨ (r' = r ∧ i' = gN_ σ (ow_ r)) := by
  unfold pr at hp ⊢
  rw [hN] at hp
  by_cases e : ow_ r' = ow_ r
  · have e1 := hs.2.2 r' e
    subst e1
    simp only [if_true] at hp
    rw [hs.1, Nat.one_mul] at hp ⊢
    by_cases z : i' < gN_ σ (ow_ r')
    · exact Or.inl z
    · exact Or.inr ⟨rfl, by omega⟩
  · simp only [if_neg e] at hp
    exact Or.inl hp
theorem pr_own' {σ σ' : st_T} {r : Nat} (hN : gN_ σ' = fun o => if o = ow_ r then gN_ σ o + 1 else gN_ σ o) {r' i' : Nat} (hp : pr σ r' i') : pr σ' r' i' := by
  refine pr_le (fun o => ?_) hp
  rw [hN]
  show _ ≤ if o = ow_ r then _ else _
  split <;> omega
theorem pr_ne {σ : st_T} {r : Nat} (hs : sole_ r) {r' i' : Nat} (hp : pr σ r' i') : ¬ (r' = r ∧ i' = gN_ σ (ow_ r)) := by
  rintro ⟨rfl, rfl⟩
  unfold pr at hp
  rw [hs.1, Nat.one_mul] at hp
  exact absurd hp (Nat.lt_irrefl _)
theorem nA_old {σ : st_T} {r len : Nat} (hs : sole_ r) {r' i' : Nat} (hp : pr σ r' i') : (∀ k, gF_ (nA_ σ r len) r' k i' = gF_ σ r' k i') ∧ gA_ (nA_ σ r len) r' i' = gA_ σ r' i' ∧ ∀ k, gP_ (nA_ σ r len) r' k i' = gP_ σ r' k i' := by
  have h1 := pr_ne hs hp
  have h2 : r' ≠ 250 := fun z => no250 (z ▸ hp)
  refine ⟨fun k => rfl, ?_, fun k => ?_⟩
  · show (if r' = r ∧ i' = gN_ σ (ow_ r) then _ else _) = _
    rw [if_neg h1]
  · rw [gP_nA _ _ _ _ _ _ h2, if_neg (fun z => h1 ⟨z.1, z.2.2⟩)]
theorem nO_old {σ : st_T} {r t N : Nat} (hs : sole_ r) {r' i' : Nat} (hp : pr σ r' i') : (∀ k, gF_ (nO_ σ r t N) r' k i' = gF_ σ r' k i') ∧ gA_ (nO_ σ r t N) r' i' = gA_ σ r' i' ∧ ∀ k, gP_ (nO_ σ r t N) r' k i' = gP_ σ r' k i' := by
  have h1 := pr_ne hs hp
  have h2 : r' ≠ 250 := fun z => no250 (z ▸ hp)
  refine ⟨fun k => ?_, rfl, fun k => ?_⟩
  · show (if r' = r ∧ i' = gN_ σ (ow_ r) then _ else _) = _
    rw [if_neg h1]
  · rw [gP_nO _ _ _ _ _ _ _ h2, if_neg h1]
theorem rdy_new {σ σ' : st_T} {r : Nat} (hs : sole_ r) (hso : so_ (ow_ r) = 0) (hN : gN_ σ' = fun o => if o = ow_ r then gN_ σ o + 1 else gN_ σ o) (hP : ∀ r' i', pr σ r' i' → ∀ k, gP_ σ' r' k i' = gP_ σ r' k i') (hf : r = 91 ∨ ∀ (k : Nat) (d : Nat × Nat × Nat), (fk_ r)[k]? = some d → d.1 = 0) (h : rdy σ) : rdy σ' := by
  refine ⟨fun o ho => ?_, fun r' i' k d hr hp hd h0 => ?_⟩
  · rw [hN]
    show (if o = ow_ r then _ else _) = _
    rw [if_neg (fun z => ho (by rw [z]; exact hso))]
    exact h.1 o ho
  · rcases pr_own hs hN hp with hp | ⟨rfl, rfl⟩
    · rw [hP r' i' hp]
      exact h.2 r' i' k d hr hp hd h0
    · rcases hf with hf | hf
      · exact absurd hf hr
      · exact absurd (hf k d hd) h0
theorem lext_new {L : ly_T} {σ σ' : st_T} {r a : Nat} (hs : sole_ r) (hN : gN_ σ' = fun o => if o = ow_ r then gN_ σ o + 1 else gN_ σ o) (h1 : cu_ σ ≤ cu_ σ') (h2 : su_ σ ≤ su_ σ') : lext L σ (lset L r (gN_ σ (ow_ r)) a) σ' := by
  refine ⟨fun r' i' hp _ => ?_, fun o => ?_, h1, h2⟩
  · unfold lset
    rw [if_neg (pr_ne hs hp)]
  · rw [hN]
    show _ ≤ if o = ow_ r then _ else _
    split <;> omega
section WALLOC
variable {p : Program} {l : Launch} {e : Env} {R : Room} {s : State} {m : MethodId} {args : Array Value} {below : List Frame} {meth : Method} {c : Code} {H : Heap} {locs : List Loc} {cells slots : Nat} {Q : State → Prop}
variable {cc : ByteArray} {pc : Nat} {ls : Array Slot} {rest : List Value} {g : wg_T} {L : ly_T} {σ : st_T} {own : String}
theorem ww_newa (hexec : p.tables.exec = Jvm.exec) (hb : c.code = cc) {atype : ArrayType} (harr : (Cond.arrayClass (newarray.typeOf atype)).before args s = true) (hW : wv g L σ s H locs) (r ty N : Nat) (hr : rK r = (1, ty, N) ∨ rK r = (2, ty, 0)) (hs : sole_ r) (hso : so_ (ow_ r) = 0 ∨ gm g = false) (hfk : fk_ r = []) (hty : (wty g)[ty]? = some (gC g ty, newarray.typeOf atype)) (hdef : defaultValue (newarray.typeOf atype) = .int 0) {n : Int32} (hn : ¬ n < 0) (hNn : n.toNatClampNeg = N) (hbytes : N * componentBytes (newarray.typeOf atype) ≤ 536870912) (hcells : cells + 1 ≤ R.cells) (hslots : slots + N ≤ R.slots) (hdg : decode cc pc = .ok (.newarray atype, 2))
    (kk : ∀ (H1 : Heap) (L1 : ly_T), lext L σ L1 (nA_ σ r N) → wv g L1 (nA_ σ r N) s H1 locs → W p l e R s m args below meth c H1 locs (cells + 1) (slots + N) Q (F0 m (pc + 2) ls (.ref (L1 r (gN_ σ (ow_ r))) :: rest))) : W p l e R s m args below meth c H locs cells slots Q (F0 m pc ls (.int n :: rest)) := by
  have hk12 : (rK r).1 = 1 ∨ (rK r).1 = 2 := by rcases hr with h | h <;> rw [h] <;> simp
  refine va_newaK hexec hb harr rfl hdg rfl hn hNn hbytes hcells hslots rfl fun H1 cA e1 z1 o1 hAr hNm => ?_
  have hcA : cA = gC g ty := by
    have h2 := (hW.1.1.2 ty _ hty).2
    have h3 : s.vm.findClass ("[" ++ (newarray.typeOf atype).toString) = some (gC g ty) := by cases atype <;> exact h2
    exact Option.some.inj (hNm.symm.trans h3)
  have hl0 : ∀ r' i', pr σ r' i' → lset L r (gN_ σ (ow_ r)) H.size r' i' = L r' i' := fun r' i' hp => by unfold lset; rw [if_neg (pr_ne hs hp)]
  have hln : lset L r (gN_ σ (ow_ r)) H.size r (gN_ σ (ow_ r)) = H.size := by unfold lset; rw [if_pos ⟨rfl, rfl⟩]
  have hA : gA_ (nA_ σ r N) r (gN_ σ (ow_ r)) = fun _ => 0 := by show (if _ then _ else _) = _; rw [if_pos ⟨rfl, rfl⟩]
  have hPl : gP_ (nA_ σ r N) r 0 (gN_ σ (ow_ r)) = N := by
    rw [gP_nA _ _ _ _ _ _ hs.2.1, if_pos ⟨rfl, rfl, rfl⟩]
  have hw : wv g (lset L r (gN_ σ (ow_ r)) H.size) (nA_ σ r N) s H1 locs := by
    refine hW.push (n := gN_ σ (ow_ r)) z1 o1 hl0 hln ?_ (fun r' i' hp => pr_own hs rfl hp) (fun r' i' hp => pr_own' rfl hp) (fun r' i' hp => nA_old hs hp) rfl (fun q j => tg_arr hk12) (fun hg => rdy_new hs (hso.resolve_right (fun z => by rw [z] at hg; cases hg)) rfl (fun r' i' hp => (nA_old hs hp).2.2) (Or.inr (fun k d hd => by rw [hfk] at hd; cases hd)))
    have hc : wE g (lset L r (gN_ σ (ow_ r)) H.size) (nA_ σ r N) r (gN_ σ (ow_ r)) = .inl (gC g ty, N, .inl fun _ => 0) := by
      rcases hr with h | h
      · rw [wE_1 h, hA]
      · rw [wE_2 h, hA, hPl]
    rw [hc]
    show H1[H.size]? = some (vp_cell (gC g ty) (N, .inl fun _ => 0))
    rw [vp_cell_i, e1, hcA, hdef]
  have k := kk H1 _ (lext_new hs rfl (Nat.le_succ _) (Nat.le_add_right _ _)) hw
  rw [hln] at k
  exact k
theorem ww_newo (hexec : p.tables.exec = Jvm.exec) (hb : c.code = cc) {C : String} {T : u_T} {N ci index : Nat} {fk : List (Nat × Nat × Nat)} (hts : ∀ w ∈ lw_all, w.before args s = true) (hin : ∀ w ∈ u_ws C T N, w ∈ lw_all) (ty0 : Nat → FieldType) (hty : ∀ k, k < N → parseFieldDescriptor (T k).2.2.1 = some (ty0 k)) (hown : s.vm.findClass own = some m.cls) (hcl : (Cond.classLink own index C).before args s = true) (hinst : (Cond.instantiable C N).before args s = true) (hini : (Cond.initialized C).before args s = true)
    (hW : wv g L σ s H locs) (r t : Nat) (hob : obv (nO_ σ r t N) r (gN_ σ (ow_ r)) ci fk) (hc : wcl[ci]? = some (C, T, N)) (hdf : ∀ j, j < N → (fk[j]?).map (fun d => if d.1 = 0 then Value.int 0 else Value.null) = some (defaultValue (ty0 j))) (hlen : fk.length ≤ 199) (hlen0 : fk.length = N) (hs : sole_ r) (hso : so_ (ow_ r) = 0 ∨ gm g = false) (hrf : gm g = false ∨ r = 91 ∨ ∀ (k : Nat) (d : Nat × Nat × Nat), (fk_ r)[k]? = some d → d.1 = 0) (hcells : cells + 1 ≤ R.cells) (hslots : slots + N ≤ R.slots) (hdg : decode cc pc = .ok (.new index, 3))
    (kk : ∀ (H1 : Heap) (L1 : ly_T), lext L σ L1 (nO_ σ r t N) → wv g L1 (nO_ σ r t N) s H1 locs → W p l e R s m args below meth c H1 locs (cells + 1) (slots + N) Q (F0 m (pc + 3) ls (.ref (L1 r (gN_ σ (ow_ r))) :: rest))) : W p l e R s m args below meth c H locs cells slots Q (F0 m pc ls rest) := by
  have hKn := hW.1.1.1 ci _ hc
  refine W.newcK hexec hb hown hcl hinst hini rfl hdg hcells hslots hKn.2.1 rfl fun H1 kC hkC e1 z1 o1 => ?_
  have hl0 : ∀ r' i', pr σ r' i' → lset L r (gN_ σ (ow_ r)) H.size r' i' = L r' i' := fun r' i' hp => by unfold lset; rw [if_neg (pr_ne hs hp)]
  have hln : lset L r (gN_ σ (ow_ r)) H.size r (gN_ σ (ow_ r)) = H.size := by unfold lset; rw [if_pos ⟨rfl, rfl⟩]
  have hF : ∀ k, gF_ (nO_ σ r t N) r k (gN_ σ (ow_ r)) = 0 := fun k => by show (if _ then _ else _) = _; rw [if_pos ⟨rfl, rfl⟩]
  have hP0 : ∀ k, k ≠ 199 → gP_ (nO_ σ r t N) r k (gN_ σ (ow_ r)) = 0 := fun k hk => by
    rw [gP_nO _ _ _ _ _ _ _ hs.2.1, if_pos ⟨rfl, rfl⟩, if_neg hk]
  have hnt : ∀ q j, ¬ tg (nO_ σ r t N) r (gN_ σ (ow_ r)) q j := by
    have hk : (rK r).1 = 0 ∨ (rK r).1 = 6 := by
      rcases hob with ⟨b, h, -⟩ | ⟨a, b, h, -⟩ <;> rw [h] <;> simp
    rintro q j (⟨ci', fk', k, d, h1, h2, h3, -⟩ | ⟨t', n, c', (h1 | h1), -⟩ | ⟨n, c', h1, -⟩)
    · exact h3 (hP0 _ (by omega))
    · rw [h1] at hk; rcases hk with hk | hk <;> cases hk
    · rw [h1] at hk; rcases hk with hk | hk <;> cases hk
    · rw [h1] at hk; rcases hk with hk | hk <;> cases hk
  have hw : wv g (lset L r (gN_ σ (ow_ r)) H.size) (nO_ σ r t N) s H1 locs := by
    refine hW.push (n := gN_ σ (ow_ r)) z1 o1 hl0 hln ?_ (fun r' i' hp => pr_own hs rfl hp) (fun r' i' hp => pr_own' rfl hp) (fun r' i' hp => nO_old hs hp) rfl hnt (fun hg => rdy_new hs (hso.resolve_right (fun z => by rw [z] at hg; cases hg)) rfl (fun r' i' hp => (nO_old hs hp).2.2) (hrf.resolve_left (fun z => by rw [z] at hg; cases hg)))
    rw [wE_ob hob]
    refine ⟨_, hc, (u_born ty0 hts hin hKn hkC e1 hty).to fun j hj => ?_⟩
    have h1 := hdf j hj
    cases hd : fk[j]? with
    | none => rw [hd] at h1; cases h1
    | some d =>
      rw [hd] at h1
      have h2 : (if d.1 = 0 then Value.int 0 else Value.null) = defaultValue (ty0 j) := Option.some.inj h1
      show defaultValue (ty0 j) = (fvl _ _ _ _ _ _).getD j .null
      rw [List.getD_eq_getElem?_getD, fvl_at hd, ← h2]
      show _ = fv _ _ _ _ _ _ _
      unfold fv
      by_cases h0 : d.1 = 0
      · rw [if_pos h0, if_pos h0, hF]
      · have : j < fk.length := (List.getElem?_eq_some_iff.mp hd).1
        rw [if_neg h0, if_neg h0, if_pos (hP0 _ (by omega))]
  have k := kk H1 _ (lext_new hs rfl (Nat.le_succ _) (Nat.le_add_right _ _)) hw
  rw [hln] at k
  exact k
end WALLOC
