set_option maxRecDepth 100000
/-! ===== arrays of arrays ===== -/
/-- several cells more -/
theorem wv.more {g : wg_T} {L : ly_T} {σ : st_T} {s : State} {H : Heap} {locs : List Loc} (hW : wv g L σ s H locs) {H1 : Heap} {σ' : st_T} {L' : ly_T} (hz : H.size ≤ H1.size) (hk : ∀ q : Nat, q < H.size → H1[q]? = H[q]?) (hL : ∀ r' i', pr σ r' i' → L' r' i' = L r' i') (hnew : ∀ r' i', pr σ' r' i' → ¬ pr σ r' i' → H.size ≤ L' r' i' ∧ va_at (gD g) wcl (L' r' i', wE g L' σ' r' i') H1) (hinj : ∀ r1 i1 r2 i2, pr σ' r1 i1 → ¬ pr σ r1 i1 → pr σ' r2 i2 → ¬ pr σ r2 i2 → L' r1 i1 = L' r2 i2 → r1 = r2 ∧ i1 = i2) (hmono : ∀ r' i', pr σ r' i' → pr σ' r' i')
    (hold : ∀ r' i', pr σ r' i' → (∀ k, gF_ σ' r' k i' = gF_ σ r' k i') ∧ gA_ σ' r' i' = gA_ σ r' i' ∧ ∀ k, gP_ σ' r' k i' = gP_ σ r' k i') (hO : gO_ σ' = gO_ σ) (hnt : ∀ r' i', pr σ' r' i' → ¬ pr σ r' i' → ∀ q j, tg σ' r' i' q j → pr σ' q j) (hrd : gm g = true → rdy σ → rdy σ') : wv g L' σ' s H1 locs := by
  have hzz : gz g ≤ H.size := Nat.le_trans hW.2.2.2 hW.2.2.1.1
  refine ⟨hW.1, ⟨fun r' i' hp => ?_, fun r1 i1 r2 i2 h1 h2 he => ?_, fun r' i' hp q j ht => ?_, fun hg => hrd hg (hW.2.1.2.2.2 hg)⟩, ⟨Nat.le_trans hW.2.2.1.1 hz, fun q h1 h2 => (hk q (Nat.lt_of_lt_of_le h1 hW.2.2.1.1)).trans (hW.2.2.1.2.1 q h1 h2), hW.2.2.1.2.2⟩, hW.2.2.2⟩
  · by_cases h : pr σ r' i'
    · have e1 : wE g L' σ' r' i' = wE g L σ r' i' := by
        obtain ⟨a1, a2, a3⟩ := hold r' i' h
        refine Eq.trans (wE_lay fun q j ht => hL q j (hW.2.1.2.2.1 r' i' h q j (tg_ext a3 ht))) (wE_ext a1 a2 a3 hO)
      rw [hL r' i' h, e1]
      exact ⟨(hW.2.1.1 r' i' h).1.kept (hk _ (hW.2.1.1 r' i' h).1.lt), (hW.2.1.1 r' i' h).2⟩
    · obtain ⟨k1, k2⟩ := hnew r' i' hp h
      exact ⟨k2, Nat.le_trans hzz k1⟩
  · by_cases k1 : pr σ r1 i1 <;> by_cases k2 : pr σ r2 i2
    · rw [hL _ _ k1, hL _ _ k2] at he
      exact hW.2.1.2.1 _ _ _ _ k1 k2 he
    · rw [hL _ _ k1] at he
      have := (hnew _ _ h2 k2).1
      exact absurd (hW.2.1.1 _ _ k1).1.lt (by show ¬ L r1 i1 < _; omega)
    · rw [hL _ _ k2] at he
      have := (hnew _ _ h1 k1).1
      exact absurd (hW.2.1.1 _ _ k2).1.lt (by show ¬ L r2 i2 < _; omega)
    · exact hinj _ _ _ _ h1 k1 h2 k2 he
  · by_cases h : pr σ r' i'
    · exact hmono _ _ (hW.2.1.2.2.1 r' i' h q j (tg_ext (hold r' i' h).2.2 ht))
    · exact hnt r' i' hp h q j ht
/-- an array of cnt arrays of w -/
def nM_ (σ : st_T) (r q cnt w : Nat) : st_T := (σ.1, fun r' i' => if r' = q ∧ cnt * gN_ σ r ≤ i' then (fun _ => 0) else gA_ σ r' i', bP_ σ (1 + cnt) (cnt + cnt * w) (gP_ σ), fun o => if o = r then gN_ σ o + 1 else gN_ σ o, gO_ σ)
theorem nM_cu {σ : st_T} {r q cnt w : Nat} : cu_ (nM_ σ r q cnt w) = cu_ σ + (1 + cnt) ∧ su_ (nM_ σ r q cnt w) = su_ σ + (cnt + cnt * w) := ⟨rfl, rfl⟩
theorem nM_lt {σ : st_T} {r q cnt w : Nat} : gN_ σ r < gN_ (nM_ σ r q cnt w) r := by show _ < if r = r then _ else _; rw [if_pos rfl]; exact Nat.lt_succ_self _
theorem outer_arr (c : ClassId) (N h0 : Nat) : ∀ i, Jvm.Free.Multi.outerC c N h0 i = arrV c N (fun j => va_rf (if j < i then some (h0 + 1 + j) else none))
  | 0 => by
    unfold Jvm.Free.Multi.outerC
    rw [arrV_new]
    congr 1
  | i + 1 => by
    unfold Jvm.Free.Multi.outerC
    rw [outer_arr c N h0 i, arrV_store]
    congr 1
    funext j
    by_cases h : j = i
    · subst h; simp [updV, va_rf]
    · by_cases h2 : j < i
      · simp [updV, h, h2, Nat.lt_succ_of_lt h2]
      · simp [updV, h, h2, show ¬ j < i + 1 by omega]
theorem fill_more (s : State) (c comp : ClassId) (N M : Nat) (dv : Value) : ∀ i, (Jvm.Free.Multi.fill s c comp N M dv i).heap.size = s.heap.size + 1 + i ∧ (Jvm.Free.Multi.fill s c comp N M dv i).heap[s.heap.size]? = some (Jvm.Free.Multi.outerC c N s.heap.size i) ∧ (∀ x : Nat, x < s.heap.size → (Jvm.Free.Multi.fill s c comp N M dv i).heap[x]? = s.heap[x]?) ∧ ∀ j : Nat, j < i → (Jvm.Free.Multi.fill s c comp N M dv i).heap[s.heap.size + 1 + j]? = some (Jvm.Free.Multi.innerC comp M dv)
  | 0 => by
    refine ⟨by simp [Jvm.Free.Multi.fill], by simp [Jvm.Free.Multi.fill], fun x hx => ?_, fun j hj => absurd hj (Nat.not_lt_zero j)⟩
    unfold Jvm.Free.Multi.fill
    exact State.heap_pushCell_of_lt _ _ hx
  | i + 1 => by
    obtain ⟨a, b, d, e⟩ := fill_more s c comp N M dv i
    have hlt : s.heap.size < (Jvm.Free.Multi.fill s c comp N M dv i).heap.size := by omega
    have hb' : ((Jvm.Free.Multi.fill s c comp N M dv i).pushCell (Jvm.Free.Multi.innerC comp M dv)).heap[s.heap.size]? = some (Jvm.Free.Multi.outerC c N s.heap.size i) := by rw [State.heap_pushCell_of_lt _ _ hlt]; exact b
    have hset : ∀ x : Nat, x ≠ s.heap.size → (Jvm.Free.Multi.fill s c comp N M dv (i + 1)).heap[x]? = ((Jvm.Free.Multi.fill s c comp N M dv i).pushCell (Jvm.Free.Multi.innerC comp M dv)).heap[x]? := fun x hx => by
      show (((Jvm.Free.Multi.fill s c comp N M dv i).pushCell (Jvm.Free.Multi.innerC comp M dv)).setCell s.heap.size _).heap[x]? = _
      show (((Jvm.Free.Multi.fill s c comp N M dv i).pushCell (Jvm.Free.Multi.innerC comp M dv)).heap.setIfInBounds s.heap.size _)[x]? = _
      simp [Array.getElem?_setIfInBounds, Ne.symm hx]
    refine ⟨by simp [Jvm.Free.Multi.fill, State.setCell, a]; omega, State.heap_setCell_self hb', fun x hx => ?_, fun j hj => ?_⟩
    · rw [hset x (by omega), State.heap_pushCell_of_lt (Jvm.Free.Multi.fill s c comp N M dv i) _ (show x < _ by omega)]
      exact d x hx
    · rw [hset _ (by omega)]
      by_cases h : j = i
      · subst h
        rw [← a]
        show ((Jvm.Free.Multi.fill s c comp N M dv j).heap.push _)[_]? = _
        rw [Array.getElem?_push_size]
      · rw [State.heap_pushCell_of_lt (Jvm.Free.Multi.fill s c comp N M dv i) _ (show s.heap.size + 1 + j < _ by omega)]
        exact e j (by omega)
def lsM (L : ly_T) (r q n cnt h0 : Nat) : ly_T := fun r' i' => if r' = r ∧ i' = n then h0 else if r' = q ∧ cnt * n ≤ i' then h0 + 1 + (i' - cnt * n) else L r' i'
def own2_ (r q cnt : Nat) : Prop := ow_ r = r ∧ mu_ r = 1 ∧ ow_ q = r ∧ mu_ q = cnt ∧ r ≠ 250 ∧ q ≠ 250 ∧ q ≠ r ∧ fk_ r = [] ∧ fk_ q = [] ∧ (∀ r', ow_ r' = r → r' = r ∨ r' = q)
theorem own2_of {r q cnt : Nat} (h1 : ow_ r = r) (h2 : mu_ r = 1) (h3 : ow_ q = r) (h4 : mu_ q = cnt) (h5 : r < 220) (h6 : q < 220) (h7 : q ≠ r) (h8 : fk_ r = []) (h9 : fk_ q = []) (h3' : r ≠ 3) (ha : ((List.range 220).all fun r' => !(ow_ r' == r) || r' == r || r' == q) = true) : own2_ r q cnt := by
  refine ⟨h1, h2, h3, h4, by omega, by omega, h7, h8, h9, fun r' h' => ?_⟩
  by_cases z : r' < 220
  · have := List.all_eq_true.mp ha r' (List.mem_range.mpr z)
    simp [h'] at this
    exact this
  · refine absurd h' (fun e => h3' ?_)
    rw [← e]
    unfold ow_ rt_
    rw [List.getD_eq_getElem?_getD, List.getElem?_eq_none (Nat.le_trans (Nat.le_of_ble_eq_true rfl) (Nat.not_lt.mp z))]
    rfl
theorem ww_mula {p : Program} {l : Launch} {e : Env} {R : Room} {s : State} {m : MethodId} {args : Array Value} {below : List Frame} {meth : Method} {c : Code} {H : Heap} {locs : List Loc} {cells slots : Nat} {Q : State → Prop} {cc : ByteArray} {pc : Nat} {ls : Array Slot} {rest : List Value} {g : wg_T} {L : ly_T} {σ : st_T} {own : String} (hexec : p.tables.exec = Jvm.exec) (hb : c.code = cc) {index : Nat} (ty : FieldType) (hown : s.vm.findClass own = some m.cls) (hclink : (Cond.classLink own index ("[" ++ (FieldType.array ty).toString)).before args s = true) (hover : (Cond.arrayOver (.array ty)).before args s = true) (harr : (Cond.arrayClass ty).before args s = true)
    (hW : wv g L σ s H locs) (r q cnt w tyO tyI : Nat) (hr : (rK r = (3, q, cnt) ∧ tyO = 4) ∨ (rK r = (4, q, cnt) ∧ tyO = 5)) (hq : rK q = (1, tyI, w)) (ho : own2_ r q cnt) (hso : so_ r = 0 ∨ gm g = false) (hRI : s.vm.findClass (FieldType.array ty).toString = some (gC g tyI)) (hRO : s.vm.findClass ("[" ++ (FieldType.array ty).toString) = some (gC g tyO)) (hdef : defaultValue ty = .int 0) {n k : Int32} (hn : ¬ n < 0) (hk : ¬ k < 0) (hN : n.toNatClampNeg = cnt) (hM : k.toNatClampNeg = w) (hb1 : cnt * 4 ≤ 536870912) (hb2 : w * componentBytes ty ≤ 536870912) (hb3 : w ≤ 536870912) (hdf : fits ty (defaultValue ty) = true) (hdd : (defaultValue ty).isDefault = true) (hcells : cells + (1 + cnt) ≤ R.cells) (hslots : slots + (cnt + cnt * w) ≤ R.slots) (hdg : decode cc pc = .ok (.multianewarray index 2, 4))
    (kk : ∀ (H1 : Heap) (L1 : ly_T), lext L σ L1 (nM_ σ r q cnt w) → wv g L1 (nM_ σ r q cnt w) s H1 locs → W p l e R s m args below meth c H1 locs (cells + (1 + cnt)) (slots + (cnt + cnt * w)) Q (F0 m (pc + 4) ls (.ref (L1 r (gN_ σ r)) :: rest))) : W p l e R s m args below meth c H locs cells slots Q (F0 m pc ls (.int k :: .int n :: rest)) := by
  obtain ⟨o1, o2, o3, o4, o5, o6, o7, o8, o9, o10⟩ := ho
  intro T hT X
  subst hN hM
  obtain ⟨vm₁, cA, comp, hw1, hfA, hfC, -, -, X1, step⟩ := X.multianewarray2F hexec hown hclink hover harr (g := F0 m pc ls (.int k :: .int n :: rest)) rfl (by rw [hb]; exact hdg) (n := n) (k := k) (rest := rest) rfl hn hk hb1 hb2 hb3 hdf hdd hcells hslots
  cases Option.some.inj (hRO.symm.trans hfA)
  cases Option.some.inj (hRI.symm.trans hfC)
  generalize hcnt : n.toNatClampNeg = cnt at *
  generalize hwd : k.toNatClampNeg = w at *
  have hTs : (T.setVm vm₁).heap = H := hT
  obtain ⟨f1, f2, f3, f4⟩ := fill_more (T.setVm vm₁) (gC g tyO) (gC g tyI) cnt w (defaultValue ty) cnt
  rw [hTs] at f1 f2 f3 f4
  have hr12 : (rK r).1 ≠ 5 := by rcases hr with ⟨h, -⟩ | ⟨h, -⟩ <;> rw [h] <;> exact fun z => by cases z
  have hpr0 : ∀ r' i', pr σ r' i' → ¬ (r' = r ∧ i' = gN_ σ r) ∧ ¬ (r' = q ∧ cnt * gN_ σ r ≤ i') := by
    intro r' i' hp
    unfold pr at hp
    refine ⟨?_, ?_⟩
    · rintro ⟨rfl, rfl⟩
      rw [o2, o1, Nat.one_mul] at hp
      exact Nat.lt_irrefl _ hp
    · rintro ⟨rfl, h⟩
      rw [o4, o3] at hp
      omega
  have hL0 : ∀ r' i', pr σ r' i' → lsM L r q (gN_ σ r) cnt H.size r' i' = L r' i' := fun r' i' hp => by
    unfold lsM
    rw [if_neg (hpr0 r' i' hp).1, if_neg (hpr0 r' i' hp).2]
  have hLr : lsM L r q (gN_ σ r) cnt H.size r (gN_ σ r) = H.size := by unfold lsM; rw [if_pos ⟨rfl, rfl⟩]
  have hLq : ∀ i', cnt * gN_ σ r ≤ i' → lsM L r q (gN_ σ r) cnt H.size q i' = H.size + 1 + (i' - cnt * gN_ σ r) := fun i' h => by unfold lsM; rw [if_neg (fun z => o7 z.1), if_pos ⟨rfl, h⟩]
  have hnew : ∀ r' i', pr (nM_ σ r q cnt w) r' i' → ¬ pr σ r' i' → (r' = r ∧ i' = gN_ σ r) ∨ (r' = q ∧ cnt * gN_ σ r ≤ i' ∧ i' < cnt * gN_ σ r + cnt) := by
    intro r' i' hp0 hn0
    have hn' : ¬ i' < mu_ r' * gN_ σ (ow_ r') := hn0
    have hp : i' < mu_ r' * (if ow_ r' = r then gN_ σ (ow_ r') + 1 else gN_ σ (ow_ r')) := hp0
    clear hp0 hn0
    by_cases e : ow_ r' = r
    · rw [if_pos e] at hp
      rcases o10 r' e with h | h
      · subst h
        rw [o2, Nat.one_mul, o1] at hp hn'
        exact Or.inl ⟨rfl, by omega⟩
      · subst h
        rw [o4, o3] at hp hn'
        rw [Nat.mul_add, Nat.mul_one] at hp
        exact Or.inr ⟨rfl, by omega, hp⟩
    · rw [if_neg e] at hp
      exact absurd hp hn'
  have hNle : ∀ o, gN_ σ o ≤ gN_ (nM_ σ r q cnt w) o := fun o => by
    show _ ≤ if o = r then _ else _
    split <;> omega
  have hold : ∀ r' i', pr σ r' i' → (∀ k, gF_ (nM_ σ r q cnt w) r' k i' = gF_ σ r' k i') ∧ gA_ (nM_ σ r q cnt w) r' i' = gA_ σ r' i' ∧ ∀ k, gP_ (nM_ σ r q cnt w) r' k i' = gP_ σ r' k i' := by
    intro r' i' hp
    refine ⟨fun k => rfl, ?_, fun k => ?_⟩
    · show (if r' = q ∧ _ then _ else _) = _
      rw [if_neg (hpr0 r' i' hp).2]
    · show bP_ σ _ _ _ r' k i' = _
      unfold bP_
      rw [if_neg (fun z => no250 (z ▸ hp))]
  have hw : wv g (lsM L r q (gN_ σ r) cnt H.size) (nM_ σ r q cnt w) s (Jvm.Free.Multi.fill (T.setVm vm₁) (gC g tyO) (gC g tyI) cnt w (defaultValue ty) cnt).heap locs := by
    refine hW.more (by omega) f3 hL0 (fun r' i' hp hn' => ?_) (fun r1 i1 r2 i2 h1 n1 h2 n2 he => ?_) (fun r' i' hp => pr_le hNle hp) hold rfl (fun r' i' hp hn' q' j' ht => ?_) (fun hg hrd => ?_)
    · rcases hnew r' i' hp hn' with ⟨rfl, rfl⟩ | ⟨rfl, h1, h2⟩
      · rw [hLr]
        refine ⟨Nat.le_refl _, ?_⟩
        have hcell : ∀ tO : Nat, (Jvm.Free.Multi.fill (T.setVm vm₁) (gC g tO) (gC g tyI) cnt w (defaultValue ty) cnt).heap[H.size]? = some (Jvm.Free.Multi.outerC (gC g tO) cnt H.size cnt) → va_at (gD g) wcl (H.size, .inl (gC g tO, cnt, .inr (.inr (.inr (.inr fun j => if j < cnt then some (lsM L r' q (gN_ σ r') cnt H.size q (cnt * gN_ σ r' + j)) else none))))) (Jvm.Free.Multi.fill (T.setVm vm₁) (gC g tO) (gC g tyI) cnt w (defaultValue ty) cnt).heap := by
          intro tO h
          show _ = some (vp_cell _ _)
          rw [h, outer_arr, vp_cell_q]
          congr 2
          funext j
          by_cases hj : j < cnt
          · rw [if_pos hj, if_pos hj, hLq _ (Nat.le_add_right _ _)]
            congr 2
            omega
          · rw [if_neg hj, if_neg hj]
        rcases hr with ⟨h, rfl⟩ | ⟨h, rfl⟩
        · rw [wE_3 h]; exact hcell 4 f2
        · rw [wE_4 h]; exact hcell 5 f2
      · rw [hLq _ h1]
        refine ⟨by omega, ?_⟩
        have hA : gA_ (nM_ σ r r' cnt w) r' i' = fun _ => 0 := by show (if _ then _ else _) = _; rw [if_pos ⟨rfl, h1⟩]
        rw [wE_1 hq, hA]
        show _ = some (vp_cell _ _)
        rw [f4 _ (by omega), vp_cell_i, hdef]
        show some ({ cls := gC g tyI, slots := Array.replicate w (.int 0), vm := .none } : Cell) = _
        rw [← arrV_new]
    · rcases hnew r1 i1 h1 n1 with ⟨rfl, rfl⟩ | ⟨rfl, a1, a2⟩ <;> rcases hnew r2 i2 h2 n2 with ⟨rfl, rfl⟩ | ⟨rfl, b1, b2⟩
      · exact ⟨rfl, rfl⟩
      · rw [hLr, hLq _ b1] at he; omega
      · rw [hLr, hLq _ a1] at he; omega
      · rw [hLq _ a1, hLq _ b1] at he
        exact ⟨rfl, by omega⟩
    · rcases hnew r' i' hp hn' with ⟨rfl, rfl⟩ | ⟨rfl, h1, h2⟩
      · have key : ∀ c', c' < cnt → pr (nM_ σ r' q cnt w) q (cnt * gN_ σ r' + c') := fun c' hc => by
          unfold pr
          show _ < mu_ q * (if ow_ q = r' then gN_ σ (ow_ q) + 1 else _)
          rw [if_pos o3, o4, o3, Nat.mul_add]
          omega
        rcases ht with ⟨ci, fk, k', dd, (⟨b, h1, -⟩ | ⟨x, b, h1, -⟩), -⟩ | ⟨t, n', c', h1, -, hc, hj⟩ | ⟨n', c', h1, -⟩
        · rcases hr with ⟨h, -⟩ | ⟨h, -⟩ <;> rw [h] at h1 <;> cases h1
        · rcases hr with ⟨h, -⟩ | ⟨h, -⟩ <;> rw [h] at h1 <;> cases h1
        · have e1 : q' = q ∧ n' = cnt := by rcases hr with ⟨h, -⟩ | ⟨h, -⟩ <;> rw [h] at h1 <;> rcases h1 with h1 | h1 <;> cases h1 <;> exact ⟨rfl, rfl⟩
          obtain ⟨rfl, rfl⟩ := e1
          rw [hj]
          exact key c' hc
        · rcases hr with ⟨h, -⟩ | ⟨h, -⟩ <;> rw [h] at h1 <;> cases h1
      · exact absurd ht (tg_arr (Or.inl (by rw [hq])))
    · have hso := hso.resolve_right (fun z => by rw [z] at hg; cases hg)
      refine ⟨fun o ho => ?_, fun r' i' k' d hr' hp hd h0 => ?_⟩
      · show (if o = r then _ else _) = _
        rw [if_neg (fun z => ho (by rw [z]; exact hso))]
        exact hrd.1 o ho
      · by_cases h : pr σ r' i'
        · rw [(hold r' i' h).2.2]
          exact hrd.2 r' i' k' d hr' h hd h0
        · rcases hnew r' i' hp h with ⟨rfl, -⟩ | ⟨rfl, -⟩
          · rw [o8] at hd; cases hd
          · rw [o9] at hd; cases hd
  have hx : lext L σ (lsM L r q (gN_ σ r) cnt H.size) (nM_ σ r q cnt w) := ⟨fun r' i' hp _ => hL0 r' i' hp, hNle, Nat.le_add_right _ _, Nat.le_add_right _ _⟩
  have k1 := kk _ _ hx hw
  rw [hLr] at k1
  rw [Nat.add_assoc cells 1 cnt, Nat.add_assoc slots cnt (cnt * w)] at X1
  obtain ⟨t, a1, b1⟩ := k1 _ rfl X1
  exact ⟨t, step t (by rw [show T.heap.size = H.size by rw [hT]]; exact a1), b1⟩
theorem own2_88 : own2_ 88 89 4 := own2_of rfl rfl rfl rfl (by decide) (by decide) (by decide) rfl rfl (by decide) (by decide +kernel)
theorem own2_40 : own2_ 40 41 10 := own2_of rfl rfl rfl rfl (by decide) (by decide) (by decide) rfl rfl (by decide) (by decide +kernel)
theorem ao_use {t : FieldType} {args : Array Value} {U : State} (h : (Cond.arrayOver (.array t)).before #[] U = true) : (Cond.arrayOver (.array t)).before args U = true := h
