set_option maxRecDepth 100000
/-! ===== a list's array anew ===== -/
theorem wv.keep {g : wg_T} {L : ly_T} {σ : st_T} {s : State} {H H1 : Heap} {locs : List Loc} (h : wv g L σ s H locs) (hz : H.size ≤ H1.size) (hk : ∀ q : Nat, q < H.size → H1[q]? = H[q]?) : wv g L σ s H1 locs :=
  ⟨h.1, h.2.1.kept (fun r i hp => hk _ (h.2.1.1 r i hp).1.lt), ⟨Nat.le_trans h.2.2.1.1 hz, fun q h1 h2 => (hk q (Nat.lt_of_lt_of_le h1 h.2.2.1.1)).trans (h.2.2.1.2.1 q h1 h2), h.2.2.1.2.2⟩, h.2.2.2⟩
def gD_ (σ : st_T) (r d i cap : Nat) : st_T := (σ.1, σ.2.1, bP_ σ 1 cap (fun r' k' i' => if r' = d ∧ k' = 0 ∧ i' = i then cap else if r' = r ∧ (k' = 1 ∨ k' = 201) ∧ i' = i then 1 else gP_ σ r' k' i'), fun o => if o = d then max (gN_ σ o) (i + 1) else gN_ σ o, gO_ σ)
theorem gP_gD {σ : st_T} {r d i cap r' k' i' : Nat} (h : r' ≠ 250) : gP_ (gD_ σ r d i cap) r' k' i' = if r' = d ∧ k' = 0 ∧ i' = i then cap else if r' = r ∧ (k' = 1 ∨ k' = 201) ∧ i' = i then 1 else gP_ σ r' k' i' := by unfold gP_ gD_ bP_; exact if_neg h
/-- what a list region and its data region are -/
def lst_ (r d q : Nat) : Prop := rK r = (0, 4, 0) ∧ fk_ r = [(0, 0, 0), (4, d, 0), (0, 0, 0)] ∧ rK d = (5, q, 0) ∧ sole_ d ∧ ow_ d = d ∧ r ≠ d ∧ q ≠ d ∧ r ≠ 250 ∧ ow_ r ≠ d ∧ ow_ q ≠ d ∧ fk_ d = [] ∧ (∀ (σ : st_T) (r' i' j' : Nat), tg σ r' i' d j' → r' = r ∧ j' = i')
theorem wv.grow {g : wg_T} {L : ly_T} {σ : st_T} {s : State} {H H2 : Heap} {locs locs2 : List Loc} (hW : wv g L σ s H locs) {r d q i a cap : Nat} (hl : lst_ r d q) (hso : so_ d = 0) (hpr : pr σ r i) (hi : i ≤ gN_ σ d) (ha : ∀ r' i', pr σ r' i' → L r' i' ≠ a) (hzz : gz g ≤ a)
    (hcell : H2[a]? = some (vp_cell (gC g 6) (cap, .inr (.inr (.inr (.inr fun j => if j < gP_ σ d 1 i then some (L q (gP_ σ d (2 + j) i)) else none)))))) (htg : ∀ j, j < gP_ σ d 1 i → pr σ q (gP_ σ d (2 + j) i))
    (hhdr : va_at (gD g) wcl (L r i, .inr (4, (fvl g L σ (fk_ r) r i).set 1 (.ref a))) H2) (hoth : ∀ x : Nat, x < H.size → x ≠ L r i → H2[x]? = H[x]?) (hS : va_S (fun q => gz g ≤ q) s.heap H2 locs2) : lext L σ (lset L d i a) (gD_ σ r d i cap) ∧ wv g (lset L d i a) (gD_ σ r d i cap) s H2 locs2 := by
  obtain ⟨l1, l2, l3, l4, l5, l6, l7, l8, l9, l10, l11, l12⟩ := hl
  have hd250 : d ≠ 250 := l4.2.1
  have hNle : ∀ o, gN_ σ o ≤ gN_ (gD_ σ r d i cap) o := by
    intro o
    show _ ≤ if o = d then max (gN_ σ o) (i + 1) else gN_ σ o
    split
    · exact Nat.le_max_left _ _
    · exact Nat.le_refl _
  have hLne : ∀ r' i', ¬ (r' = d ∧ i' = i) → lset L d i a r' i' = L r' i' := fun r' i' h => by unfold lset; rw [if_neg h]
  have hLd : lset L d i a d i = a := by unfold lset; rw [if_pos ⟨rfl, rfl⟩]
  have hpr' : ∀ r' i', pr (gD_ σ r d i cap) r' i' → pr σ r' i' ∨ (r' = d ∧ i' = i) := by
    intro r' i' hp
    unfold pr at hp ⊢
    by_cases e : ow_ r' = d
    · have e1 : r' = d := l4.2.2 r' (e.trans l5.symm)
      subst e1
      rw [l4.1, Nat.one_mul] at hp ⊢
      have h2 : i' < if ow_ r' = r' then max (gN_ σ (ow_ r')) (i + 1) else gN_ σ (ow_ r') := hp
      rw [if_pos e, e] at h2
      rw [e]
      rcases Nat.lt_or_ge i' (gN_ σ r') with h3 | h3
      · exact Or.inl h3
      · exact Or.inr ⟨rfl, by omega⟩
    · have h2 : i' < mu_ r' * (if ow_ r' = d then max (gN_ σ (ow_ r')) (i + 1) else gN_ σ (ow_ r')) := hp
      rw [if_neg e] at h2
      exact Or.inl h2
  have hlt : ∀ r' i', pr σ r' i' → L r' i' < H.size := fun r' i' hp => (hW.2.1.1 r' i' hp).1.lt
  have hsame : ∀ r' i', pr σ r' i' → ¬ (r' = d ∧ i' = i) → ¬ (r' = r ∧ i' = i) → ∀ k, gP_ (gD_ σ r d i cap) r' k i' = gP_ σ r' k i' := by
    intro r' i' hp h1 h2 k
    rw [gP_gD (fun z => no250 (z ▸ hp)), if_neg (fun z => h1 ⟨z.1, z.2.2⟩), if_neg (fun z => h2 ⟨z.1, z.2.2⟩)]
  have hPd : ∀ k, k ≠ 0 → gP_ (gD_ σ r d i cap) d k i = gP_ σ d k i := fun k hk => by
    rw [gP_gD hd250, if_neg (fun z => hk z.2.1), if_neg (fun z => l6 z.1.symm)]
  have hext : lext L σ (lset L d i a) (gD_ σ r d i cap) := by
    refine ⟨fun r' i' hp hk => hLne r' i' (fun z => ?_), hNle, Nat.le_succ _, Nat.le_add_right _ _⟩
    rw [z.1, l3] at hk
    exact hk rfl
  have htgd : ∀ r' i', pr σ r' i' → ¬ (r' = d ∧ i' = i) → ¬ (r' = r ∧ i' = i) → ∀ q' j', tg (gD_ σ r d i cap) r' i' q' j' → tg σ r' i' q' j' := fun r' i' hp h1 h2 q' j' ht => tg_ext (hsame r' i' hp h1 h2) ht
  refine ⟨hext, hW.1, ⟨fun r' i' hp => ?_, fun r1 i1 r2 i2 h1 h2 he => ?_, fun r' i' hp q' j' ht => ?_, fun hg => ?_⟩, hS, hW.2.2.2⟩
  · by_cases e1 : r' = d ∧ i' = i
    · obtain ⟨rfl, rfl⟩ := e1
      rw [hLd]
      refine ⟨?_, hzz⟩
      rw [wE_5 l3]
      show H2[a]? = some (vp_cell _ _)
      rw [hcell, gP_gD hd250, if_pos ⟨rfl, rfl, rfl⟩]
      refine congrArg (fun f : Nat → Option Nat => some (vp_cell (gC g 6) (cap, Sum.inr (Sum.inr (Sum.inr (Sum.inr f)))))) (funext fun j => ?_)
      rw [hPd 1 (by omega), hPd (2 + j) (by omega), hLne q _ (fun z => l7 z.1)]
    · rcases hpr' r' i' hp with hp0 | hp0
      · rw [hLne r' i' e1]
        refine ⟨?_, (hW.2.1.1 r' i' hp0).2⟩
        by_cases e2 : r' = r ∧ i' = i
        · obtain ⟨rfl, rfl⟩ := e2
          rw [wE_0 l1]
          have e : (fvl g L σ (fk_ r') r' i').set 1 (.ref a) = fvl g (lset L d i' a) (gD_ σ r' d i' cap) (fk_ r') r' i' := by
            have h101 : gP_ (gD_ σ r' d i' cap) r' 201 i' = 1 := by rw [gP_gD l8, if_neg (fun z => l6 z.1), if_pos ⟨rfl, Or.inr rfl, rfl⟩]
            have h1 : gP_ (gD_ σ r' d i' cap) r' 1 i' = 1 := by rw [gP_gD l8, if_neg (fun z => l6 z.1), if_pos ⟨rfl, Or.inl rfl, rfl⟩]
            have hv : fv g (lset L d i' a) (gD_ σ r' d i' cap) r' i' 1 (4, d, 0) = .ref a := by
              rw [fv_p (fun z => by cases z) (by show gP_ _ r' 201 i' ≠ 0; rw [h101]; exact Nat.one_ne_zero)]
              show Value.ref (if gP_ (gD_ σ r' d i' cap) r' 1 i' = 0 then ge g else lset L d i' a d i') = _
              rw [h1, if_neg Nat.one_ne_zero, hLd]
            rw [l2]
            apply List.ext_getElem?
            intro n
            match n with
            | 0 => rw [List.getElem?_set_ne (by omega), fvl_at (d := (0, 0, 0)) rfl, fvl_at (d := (0, 0, 0)) rfl]; rfl
            | 1 => rw [List.getElem?_set_self (by unfold fvl; rw [List.length_mapIdx]; exact Nat.le_of_ble_eq_true rfl), fvl_at (d := (4, d, 0)) rfl, hv]
            | 2 => rw [List.getElem?_set_ne (by omega), fvl_at (d := (0, 0, 0)) rfl, fvl_at (d := (0, 0, 0)) rfl]; rfl
            | n + 3 => rw [List.getElem?_eq_none (by rw [List.length_set]; unfold fvl; rw [List.length_mapIdx]; show 3 ≤ n + 3; omega), List.getElem?_eq_none (by unfold fvl; rw [List.length_mapIdx]; show 3 ≤ n + 3; omega)]
          rw [← e]
          exact hhdr
        · have h3 : wE g (lset L d i a) (gD_ σ r d i cap) r' i' = wE g L σ r' i' := by
            refine Eq.trans (wE_lay fun q' j' ht => hLne q' j' ?_) (wE_ext (fun _ => rfl) rfl (hsame r' i' hp0 e1 e2) rfl)
            rintro ⟨rfl, rfl⟩
            obtain ⟨z1, z2⟩ := l12 _ _ _ _ ht
            exact e2 ⟨z1, z2.symm⟩
          rw [h3]
          exact (hW.2.1.1 r' i' hp0).1.kept (hoth _ (hlt r' i' hp0) (fun z => e2 (hW.2.1.2.1 r' i' r i hp0 hpr z)))
      · exact absurd hp0 e1
  · by_cases e1 : r1 = d ∧ i1 = i <;> by_cases e2 : r2 = d ∧ i2 = i
    · exact ⟨e1.1.trans e2.1.symm, e1.2.trans e2.2.symm⟩
    · obtain ⟨rfl, rfl⟩ := e1
      rw [hLd, hLne _ _ e2] at he
      rcases hpr' r2 i2 h2 with hp | hp
      · exact absurd he.symm (ha _ _ hp)
      · exact absurd hp e2
    · obtain ⟨rfl, rfl⟩ := e2
      rw [hLd, hLne _ _ e1] at he
      rcases hpr' r1 i1 h1 with hp | hp
      · exact absurd he (ha _ _ hp)
      · exact absurd hp e1
    · rw [hLne _ _ e1, hLne _ _ e2] at he
      exact hW.2.1.2.1 _ _ _ _ ((hpr' _ _ h1).resolve_right e1) ((hpr' _ _ h2).resolve_right e2) he
  · by_cases e1 : r' = d ∧ i' = i
    · obtain ⟨rfl, rfl⟩ := e1
      rcases ht with ⟨ci, fk, k, dd, (⟨b, h1, -⟩ | ⟨x, b, h1, -⟩), -⟩ | ⟨t, n, c, (h1 | h1), -⟩ | ⟨n, c, h1, h2, h3⟩
      · rw [l3] at h1; cases h1
      · rw [l3] at h1; cases h1
      · rw [l3] at h1; cases h1
      · rw [l3] at h1; cases h1
      · rw [l3] at h1
        cases h1
        rw [hPd 1 (by omega)] at h2
        rw [hPd (2 + c) (by omega)] at h3
        rw [h3]
        exact pr_le hNle (htg c h2)
    · have hp0 := (hpr' r' i' hp).resolve_right e1
      by_cases e2 : r' = r ∧ i' = i
      · obtain ⟨rfl, rfl⟩ := e2
        rcases ht with ⟨ci, fk, k, dd, h1, h2, h3, h4⟩ | ⟨t, n, c, (h1 | h1), -⟩ | ⟨n, c, h1, -⟩
        · obtain ⟨-, rfl⟩ := obv_fn h1 (obv_0 l1)
          rw [l2] at h2
          match k, h2 with
          | 0, h2 => cases h2; exact h4.elim
          | 1, h2 =>
            cases h2
            obtain ⟨-, rfl, rfl⟩ := h4
            unfold pr
            show j' < mu_ q' * (if ow_ q' = q' then max (gN_ σ (ow_ q')) (j' + 1) else gN_ σ (ow_ q'))
            rw [if_pos l5, l4.1, Nat.one_mul]
            exact Nat.lt_of_lt_of_le (Nat.lt_succ_self _) (Nat.le_max_right _ _)
          | 2, h2 => cases h2; exact h4.elim
          | n + 3, h2 => cases h2
        · rw [l1] at h1; cases h1
        · rw [l1] at h1; cases h1
        · rw [l1] at h1; cases h1
      · exact pr_le hNle (hW.2.1.2.2.1 r' i' hp0 q' j' (htgd r' i' hp0 e1 e2 q' j' ht))
  · have hr := hW.2.1.2.2.2 hg
    refine ⟨fun o ho => ?_, fun r' i' k dd h91 hp hk h0 => ?_⟩
    · show (if o = d then max (gN_ σ o) (i + 1) else gN_ σ o) = so_ o
      rw [if_neg (fun z => ho (by rw [z]; exact hso))]
      exact hr.1 o ho
    · by_cases e1 : r' = d ∧ i' = i
      · rw [e1.1, l11] at hk
        cases hk
      · have hp0 := (hpr' r' i' hp).resolve_right e1
        rw [gP_gD (fun z => no250 (z ▸ hp0)), if_neg (fun z => e1 ⟨z.1, z.2.2⟩)]
        split
        · exact Nat.one_ne_zero
        · exact hr.2 r' i' k dd h91 hp0 hk h0
theorem gD_cu {σ : st_T} {r d i cap : Nat} : cu_ (gD_ σ r d i cap) = cu_ σ + 1 ∧ su_ (gD_ σ r d i cap) = su_ σ + cap := ⟨rfl, rfl⟩

theorem wa_ra {p : Program} {l : Launch} {e : Env} {R : Room} {s : State} {m : MethodId} {args : Array Value} {below : List Frame} {meth : Method} {c : Code} {H : Heap} {locs : List Loc} {cells slots : Nat} {cc : ByteArray} {pc : Nat} {ls : Array Slot} {g : wg_T} {L L0 : ly_T} {σ σ0 σ_ : st_T} {rg v r_ : Nat} {T : FieldType} (hexec : p.tables.exec = Jvm.exec) (hb : c.code = cc) (hr : meth.sig.returnType = some (.array T)) (hlocks : meth.locks = false) (hx : lext L0 σ0 L σ) (hcs : bk σ0 σ cells slots) (hW : wv g L σ s H locs) (e1 : r_ = v) (e2 : σ_ = σ) (hdg : decode cc pc = .ok (.areturn, 1)) :
    W p l e R s m args below meth c H locs cells slots (MQ below (wAr g L0 σ0 rg r_ σ_) args s (cu_ σ_ - cu_ σ0) (su_ σ_ - su_ σ0) (fun q => gz g ≤ q)) (F0 m pc ls [.ref (L rg v)]) := by
  subst e1 e2
  exact W.widen hcs.2.1 hcs.2.2 (W.aret hexec hb hr (Or.inr ⟨_, rfl⟩) (Or.inr ⟨_, rfl⟩) (fun t ht hW' => ⟨⟨L, _, rfl, hx, rfl, hW.end ht⟩, hW.F ht⟩) hW.locs hdg hlocks)
theorem hd_J0_init : yJ0_init.cls = RJ0 ∧ yJ0_init.cls ≠ "java/lang/invoke/MethodHandle" ∧ yJ0_init.cls ≠ "java/lang/invoke/VarHandle" ∧ (parseMethodDescriptor yJ0_init.desc).map (fun d => d.parameters.length) = some 0 := by decide +kernel
theorem hd_J1_init : yJ1_init.cls = RJ1 ∧ yJ1_init.cls ≠ "java/lang/invoke/MethodHandle" ∧ yJ1_init.cls ≠ "java/lang/invoke/VarHandle" ∧ (parseMethodDescriptor yJ1_init.desc).map (fun d => d.parameters.length) = some 0 := by decide +kernel
theorem hd_J2_init : yJ2_init.cls = RJ2 ∧ yJ2_init.cls ≠ "java/lang/invoke/MethodHandle" ∧ yJ2_init.cls ≠ "java/lang/invoke/VarHandle" ∧ (parseMethodDescriptor yJ2_init.desc).map (fun d => d.parameters.length) = some 0 := by decide +kernel
theorem hd_J2_add : yJ2_add.cls = RJ2 ∧ yJ2_add.cls ≠ "java/lang/invoke/MethodHandle" ∧ yJ2_add.cls ≠ "java/lang/invoke/VarHandle" ∧ (parseMethodDescriptor yJ2_add.desc).map (fun d => d.parameters.length) = some 1 := by decide +kernel
theorem hd_J2_add_2 : yJ2_add_2.cls = RJ2 ∧ yJ2_add_2.cls ≠ "java/lang/invoke/MethodHandle" ∧ yJ2_add_2.cls ≠ "java/lang/invoke/VarHandle" ∧ (parseMethodDescriptor yJ2_add_2.desc).map (fun d => d.parameters.length) = some 3 := by decide +kernel
theorem hd_J2_grow : yJ2_grow.cls = RJ2 ∧ yJ2_grow.cls ≠ "java/lang/invoke/MethodHandle" ∧ yJ2_grow.cls ≠ "java/lang/invoke/VarHandle" ∧ (parseMethodDescriptor yJ2_grow.desc).map (fun d => d.parameters.length) = some 0 := by decide +kernel
theorem hd_J2_grow_2 : yJ2_grow_2.cls = RJ2 ∧ yJ2_grow_2.cls ≠ "java/lang/invoke/MethodHandle" ∧ yJ2_grow_2.cls ≠ "java/lang/invoke/VarHandle" ∧ (parseMethodDescriptor yJ2_grow_2.desc).map (fun d => d.parameters.length) = some 1 := by decide +kernel
theorem c_J0_init (g : wg_T) (l : Launch) (L : ly_T) (σ : st_T) (v : Nat) : CV g l yJ0_init (ws_ yJ0_init cJ0_init 1 none) 3 80 0 0 [.ref v] L σ σ := by
  refine wbody.met (by decide) (Nat.le_of_ble_eq_true rfl) ?_
  intro p e s m args below meth c ls hx hb hr' hml hlocks hts hown hnm hW hl
  have hown : s.vm.findClass RJ0 = some m.cls := hown
  have hl : lv_has ls 1 [(0, .ref v)] := hl
  refine lv_aload_n hx hb dJ0_init_0 rfl (lv_at hl 0 rfl) ?_
  refine W.objInit hx hb hown (hts _ q250) (hts _ q159) (hts _ q160) rfl (hl.1.trans hml.symm) rfl dJ0_init_1 (Nat.le_of_ble_eq_true rfl) (Nat.le_of_ble_eq_true rfl) ?_
  exact we_v hx hb hr' hlocks hW rfl (Nat.le_refl _) (Nat.le_refl _) dJ0_init_4
theorem c_J1_init (g : wg_T) (l : Launch) (L : ly_T) (σ : st_T) (r i d q : Nat) (hd : lst_ r d q) (hp : pr σ r i) : CV g l yJ1_init (ws_ yJ1_init cJ1_init 1 none) 5 120 0 0 [.ref (L r i)] L σ (sF_ σ r 0 i 0) := by
  refine wbody.met (by decide) (Nat.le_of_ble_eq_true rfl) ?_
  intro p e s m args below meth c ls hx hb hr' hml hlocks hts hown hnm hW hl
  have hown : s.vm.findClass RJ1 = some m.cls := hown
  have hl : lv_has ls 1 [(0, .ref (L r i))] := hl
  refine lv_aload_n hx hb dJ1_init_0 rfl (lv_at hl 0 rfl) ?_
  refine ww_cv (va_runI (As := []) (rest := []) ⟨hx, hb, hml, hown, hts⟩ (c_J0_init g l L σ (L r i)) (cwI 0 hts (lw_meth q249) rfl rfl rfl (hts _ q115) (hts _ q247) (hts _ q248) rfl hd_J0_init.2 ⟨(Nat.le_of_ble_eq_true rfl), (Nat.le_of_ble_eq_true rfl)⟩) (ww_preS hW) rfl rfl hl.1 rfl (lv_room (Nat.le_of_ble_eq_true rfl)) dJ1_init_1 ⟨Nat.le_of_ble_eq_true rfl, Nat.le_of_ble_eq_true rfl⟩) hW (fun H locs hW => ?_)
  refine lv_aload_n hx hb dJ1_init_4 rfl (lv_at hl 0 rfl) ?_
  refine lv_iconst (v := 0) hx hb dJ1_init_5 (by decide) ?_
  refine ww_put (q := 0) (j := 0) hx hb hts hown hW r i 0 hp (obv_0 hd.1) (by rw [hd.2.1]; rfl) in_J2 tyJ2_ok nmJ2 rfl (by decide) (Or.inl (hts _ q255)) (fun _ h => h) rfl rfl rfl rfl dJ1_init_6 (fun H locs hW => ?_)
  exact we_v hx hb hr' hlocks hW rfl (Nat.le_refl _) (Nat.le_refl _) dJ1_init_9
theorem c_AL_init (g : wg_T) (l : Launch) (L : ly_T) (σ : st_T) (r i d q : Nat) (hd : lst_ r d q) (hp : pr σ r i) : CV g l yJ2_init (ws_ yJ2_init cJ2_init 1 none) 7 180 0 0 [.ref (L r i)] L σ (sM_ (sF_ σ r 0 i 0) r 1 i 0) := by
  refine wbody.met (by decide) (Nat.le_of_ble_eq_true rfl) ?_
  intro p e s m args below meth c ls hx hb hr' hml hlocks hts hown hnm hW hl
  have hown : s.vm.findClass RJ2 = some m.cls := hown
  have hl : lv_has ls 1 [(0, .ref (L r i))] := hl
  refine lv_aload_n hx hb dJ2_init_0 rfl (lv_at hl 0 rfl) ?_
  refine ww_cv (va_runI (As := []) (rest := []) ⟨hx, hb, hml, hown, hts⟩ (c_J1_init g l L σ r i d q hd hp) (cwI 0 hts (lw_meth q246) rfl rfl rfl (hts _ q116) (hts _ q244) (hts _ q245) rfl hd_J1_init.2 ⟨(Nat.le_of_ble_eq_true rfl), (Nat.le_of_ble_eq_true rfl)⟩) (ww_preS hW) rfl rfl hl.1 rfl (lv_room (Nat.le_of_ble_eq_true rfl)) dJ2_init_1 ⟨Nat.le_of_ble_eq_true rfl, Nat.le_of_ble_eq_true rfl⟩) hW (fun H locs hW => ?_)
  refine lv_aload_n hx hb dJ2_init_4 rfl (lv_at hl 0 rfl) ?_
  refine va_gets hx hb hW.1.2.2.2.2.1 hW.2.2.1 hown (hts _ q251) (fun _ h => h) dJ2_init_5 ?_
  refine ww_mark (d := (4, d, 0)) hx hb hts hown hW r i 1 0 hp (tgd_4 (fun z => absurd rfl z)) (obv_0 hd.1) (by rw [hd.2.1]; rfl) (fun z => by cases z) (by rw [hd.2.1]; exact Nat.le_of_ble_eq_true rfl) in_J2 tyJ2_ok nmJ2 rfl (by decide) (Or.inl (hts _ q253)) (fun _ h => h) rfl rfl (fun _ => rfl) (fun _ => rfl) (by rw [fp_M4, if_pos rfl]) dJ2_init_8 (fun H locs hW => ?_)
  exact we_v hx hb hr' hlocks hW rfl (Nat.le_refl _) (Nat.le_refl _) dJ2_init_11
theorem ww_elen {p : Program} {l : Launch} {e : Env} {R : Room} {s : State} {m : MethodId} {args : Array Value} {below : List Frame} {meth : Method} {c : Code} {H : Heap} {locs : List Loc} {cells slots : Nat} {Q : State → Prop} {cc : ByteArray} {pc : Nat} {ls : Array Slot} {rest : List Value} {g : wg_T} {L : ly_T} {σ : st_T} (hexec : p.tables.exec = Jvm.exec) (hb : c.code = cc) (hW : wv g L σ s H locs) (hdg : decode cc pc = .ok (.arraylength, 1)) (kk : W p l e R s m args below meth c H locs cells slots Q (F0 m (pc + 1) ls (.int 0 :: rest))) : W p l e R s m args below meth c H locs cells slots Q (F0 m pc ls (.ref (ge g) :: rest)) := by
  obtain ⟨cell, h1, h2, h3, h4, h5⟩ := hW.1.2.2.2.2.2.1
  have h6 : H[ge g]? = some cell := by rw [hW.2.2.1.2.1 _ (Array.getElem?_eq_some_iff.mp h1).1 h5]; exact h1
  refine W.alen (n := 0) (ty := .object "java/lang/Object") hexec hb h6 ⟨(fun k z => by rw [z] at h2; cases h2), ?_⟩ h4 rfl rfl hdg kk
  rw [h3]
  exact ((hW.1.1.2 6 _ rfl).1 0 (fun _ => .null)).2
theorem ww_dlen {p : Program} {l : Launch} {e : Env} {R : Room} {s : State} {m : MethodId} {args : Array Value} {below : List Frame} {meth : Method} {c : Code} {H : Heap} {locs : List Loc} {cells slots : Nat} {Q : State → Prop} {cc : ByteArray} {pc : Nat} {ls : Array Slot} {rest : List Value} {g : wg_T} {L : ly_T} {σ : st_T} (hexec : p.tables.exec = Jvm.exec) (hb : c.code = cc) (hW : wv g L σ s H locs) (r i : Nat) {q n : Nat} (hpr : pr σ r i) (hr : rK r = (5, q, n)) {v : Int32} (hv : Int32.ofNat (gP_ σ r 0 i) = v) (hdg : decode cc pc = .ok (.arraylength, 1)) (kk : W p l e R s m args below meth c H locs cells slots Q (F0 m (pc + 1) ls (.int v :: rest))) : W p l e R s m args below meth c H locs cells slots Q (F0 m pc ls (.ref (L r i) :: rest)) := by
  have hP := ww_at hW hpr
  rw [wE_5 hr] at hP
  exact va_alen hexec hb hW.1.1 hP 0 6 rfl rfl hv hdg kk
/-- Object[n], not yet anyone's -/
theorem ww_anew {p : Program} {l : Launch} {e : Env} {R : Room} {s : State} {m : MethodId} {args : Array Value} {below : List Frame} {meth : Method} {c : Code} {H : Heap} {locs : List Loc} {cells slots : Nat} {Q : State → Prop} {cc : ByteArray} {pc : Nat} {ls : Array Slot} {rest : List Value} {g : wg_T} {L : ly_T} {σ : st_T} {own : String} (hexec : p.tables.exec = Jvm.exec) (hb : c.code = cc) {index : Nat} (hown : s.vm.findClass own = some m.cls) (hclink : (Cond.classLink own index "java/lang/Object").before args s = true) (hW : wv g L σ s H locs) {n : Int32} {N : Nat} (hn : ¬ n < 0) (hN : n.toNatClampNeg = N) (hbytes : N * 4 ≤ 536870912) (hcells : cells + 1 ≤ R.cells) (hslots : slots + N ≤ R.slots) (hdg : decode cc pc = .ok (.anewarray index, 3))
    (kk : ∀ (H1 : Heap), H1.size = H.size + 1 → (∀ q : Nat, q < H.size → H1[q]? = H[q]?) → H1[H.size]? = some (vp_cell (gC g 6) (N, .inr (.inr (.inr (.inr fun _ => none))))) → wv g L σ s H1 locs → W p l e R s m args below meth c H1 locs (cells + 1) (slots + N) Q (F0 m (pc + 3) ls (.ref H.size :: rest))) : W p l e R s m args below meth c H locs cells slots Q (F0 m pc ls (.int n :: rest)) := by
  subst hN
  refine W.anew hexec hb hown hclink (va_AO.use hW.1.2.2.2.2.2.2.2.2.2.2.1) rfl hdg rfl hn hbytes hcells hslots fun cA kA comp f1 f2 f3 f4 => ?_
  have hcA : cA = gC g 6 := by
    obtain ⟨-, -, -, -, -, h3⟩ := (hW.1.1.2 6 _ rfl).2
    exact Option.some.inj (f1.symm.trans h3)
  generalize hH1 : H.push ({ cls := cA, slots := Array.replicate n.toNatClampNeg .null, vm := .none } : Cell) = H1
  have z1 : H1.size = H.size + 1 := by rw [← hH1, Array.size_push]
  have e1 : H1[H.size]? = some (arrV cA n.toNatClampNeg (fun _ => .null)) := by rw [← hH1, Array.getElem?_push_size, ← arrV_new]
  have o1 : ∀ q : Nat, q < H.size → H1[q]? = H[q]? := fun q hq => by rw [← hH1, Array.getElem?_push, if_neg (Nat.ne_of_lt hq)]
  exact kk H1 z1 o1 (by rw [e1, hcA]; rfl) (hW.keep (by omega) o1)
/-- elementData := a new array -/
theorem ww_putD {p : Program} {l : Launch} {e : Env} {R : Room} {s : State} {m : MethodId} {args : Array Value} {below : List Frame} {meth : Method} {c : Code} {H : Heap} {locs : List Loc} {cells slots : Nat} {Q : State → Prop} {cc : ByteArray} {pc : Nat} {ls : Array Slot} {rest : List Value} {g : wg_T} {L : ly_T} {σ : st_T} (hexec : p.tables.exec = Jvm.exec) (hb : c.code = cc) (hts : ∀ w ∈ lw_all, w.before args s = true) (hown : s.vm.findClass RJ2 = some m.cls) (hW : wv g L σ s H locs) {r i d q a cap : Nat} (hl : lst_ r d q) (hso : so_ d = 0) (hpr : pr σ r i) (hi : i ≤ gN_ σ d) (ha : ∀ r' i', pr σ r' i' → L r' i' ≠ a) (hza : gz g ≤ a)
    (hcell : H[a]? = some (vp_cell (gC g 6) (cap, .inr (.inr (.inr (.inr fun j => if j < gP_ σ d 1 i then some (L q (gP_ σ d (2 + j) i)) else none)))))) (htg : ∀ j, j < gP_ σ d 1 i → pr σ q (gP_ σ d (2 + j) i)) (hdg : decode cc pc = .ok (.putfield 9, 3))
    (kk : ∀ (H1 : Heap) (locs1 : List Loc) (L1 : ly_T), L1 d i = a → lext L σ L1 (gD_ σ r d i cap) → wv g L1 (gD_ σ r d i cap) s H1 locs1 → W p l e R s m args below meth c H1 locs1 cells slots Q (F0 m (pc + 3) ls rest)) : W p l e R s m args below meth c H locs cells slots Q (F0 m pc ls (.ref a :: .ref (L r i) :: rest)) := by
  have hP := (hW.2.1.1 r i hpr).1
  rw [wE_0 hl.1] at hP
  refine wy_put hexec hb hts in_J2 tyJ2 tyJ2_ok nmJ2 hown hW.1.1 hP rfl 1 (by decide) (Or.inl (hts _ q253)) (fun _ h => h) rfl rfl rfl rfl (by unfold fvl; rw [List.length_mapIdx, hl.2.1]; exact Nat.le_of_ble_eq_true rfl) hdg fun H1 j' e1 e2 e3 => ?_
  have hS : va_S (fun q => gz g ≤ q) s.heap H1 (locs ++ [⟨L r i, j'⟩]) := hW.2.2.1.put e2 e3 (hW.2.1.1 r i hpr).2
  obtain ⟨k1, k2⟩ := hW.grow (H2 := H1) hl hso hpr hi ha hza (by rw [e3 a (fun z => ha _ _ hpr z.symm)]; exact hcell) htg e1 (fun x _ hne => e3 x hne) hS
  exact kk H1 _ _ (by unfold lset; rw [if_pos ⟨rfl, rfl⟩]) k1 k2
theorem c_AL_growB (g : wg_T) (l : Launch) (L : ly_T) (σ : st_T) (r i d q : Nat) (hd : lst_ r d q) (hso : so_ d = 0) (hpr : pr σ r i) (hfl : gP_ σ r 201 i ≠ 0) (h0 : gP_ σ r 1 i = 0) (hi : i ≤ gN_ σ d) (hc0 : gP_ σ d 1 i = 0) : AR g l yJ2_grow_2 (ws_ yJ2_grow_2 cJ2_grow_2 4 (some (.array (.object "java/lang/Object")))) 8 300 [.ref (L r i), .int 1] L σ d i (gD_ σ r d i 10) := by
  refine wbody.met (by decide) (Nat.le_of_ble_eq_true rfl) ?_
  intro p e s m args below meth c ls hx hb hr' hml hlocks hts hown hnm hW hl
  have hown : s.vm.findClass RJ2 = some m.cls := hown
  have hl : lv_has ls 4 [(0, .ref (L r i)), (1, .int 1)] := hl
  have hfv : fv g L σ r i 1 (4, d, 0) = .ref (ge g) := by
    rw [fv_p (fun z => by cases z) hfl]
    show Value.ref (if gP_ σ r 1 i = 0 then ge g else L d i) = _
    rw [if_pos h0]
  refine lv_aload_n hx hb dJ2_grow_2_0 rfl (lv_at hl 0 rfl) ?_
  refine ww_get (d := (4, d, 0)) hx hb hts hown hW r i 1 hpr (obv_0 hd.1) (by rw [hd.2.1]; rfl) in_J2 rfl (by decide) (hts _ q253) (fun _ h => h) dJ2_grow_2_1 ?_
  rw [hfv]
  refine ww_elen hx hb hW dJ2_grow_2_4 ?_
  refine lv_istore_n (lv' := [(2, .int 0), (0, .ref (L r i)), (1, .int 1)]) hx hb dJ2_grow_2_5 rfl hl (by decide) rfl (fun ls hl => ?_)
  refine lv_iload_n hx hb dJ2_grow_2_6 rfl (lv_at hl 0 rfl) ?_
  refine lv_if_gt (tgt := 20) hx hb dJ2_grow_2_7 (by decide) (fun h => absurd h (by decide)) (fun _ => ?_)
  refine lv_aload_n hx hb dJ2_grow_2_10 rfl (lv_at hl 1 rfl) ?_
  refine ww_get (d := (4, d, 0)) hx hb hts hown hW r i 1 hpr (obv_0 hd.1) (by rw [hd.2.1]; rfl) in_J2 rfl (by decide) (hts _ q253) (fun _ h => h) dJ2_grow_2_11 ?_
  rw [hfv]
  refine va_gets hx hb hW.1.2.2.2.2.1 hW.2.2.1 hown (hts _ q251) (fun _ h => h) dJ2_grow_2_14 ?_
  refine lv_acmp_eq (rx := some (ge g)) (ry := some (ge g)) (tgt := 45) hx hb dJ2_grow_2_17 (by decide) (fun _ => ?_) (fun h => absurd rfl h)
  refine lv_aload_n hx hb dJ2_grow_2_45 rfl (lv_at hl 1 rfl) ?_
  refine lv_bipush (v := 10) hx hb dJ2_grow_2_46 (by decide) ?_
  refine lv_iload_n hx hb dJ2_grow_2_48 rfl (lv_at hl 2 rfl) ?_
  refine va_mmax hx hb (hml.trans hl.1.symm) hown (hts _ q694) (hts _ q604) (hts _ q134) (hts _ q605) (Nat.le_of_ble_eq_true rfl) (Nat.le_of_ble_eq_true rfl) (Nat.zero_le _) (Nat.zero_le _) dJ2_grow_2_49 ?_
  rw [show (if (10 : Int32) < 1 then (1 : Int32) else 10) = 10 from rfl]
  have hrm : 0 + 1 ≤ cu_ (gD_ σ r d i 10) - cu_ σ ∧ 0 + 10 ≤ su_ (gD_ σ r d i 10) - su_ σ := by rw [gD_cu.1, gD_cu.2]; omega
  refine ww_anew hx hb hown (hts _ q695) hW (N := 10) (by decide) rfl (Nat.le_of_ble_eq_true rfl) hrm.1 hrm.2 dJ2_grow_2_52 (fun H1 z1 o1 e1 hW1 => ?_)
  refine lv_dup_x1 hx hb dJ2_grow_2_55 rfl rfl ?_
  refine ww_putD (cap := 10) hx hb hts hown hW1 hd hso hpr hi (fun r' i' hp => Nat.ne_of_lt (hW.2.1.1 r' i' hp).1.lt) (Nat.le_trans hW.2.2.2 hW.2.2.1.1) ?_ (fun j hj => by rw [hc0] at hj; omega) dJ2_grow_2_56 (fun H2 locs2 L1 eL hx1 hW2 => ?_)
  · rw [e1]
    refine congrArg (fun f : Nat → Option Nat => some (vp_cell (gC g 6) (10, Sum.inr (Sum.inr (Sum.inr (Sum.inr f)))))) (funext fun j => ?_)
    rw [hc0, if_neg (Nat.not_lt_zero j)]
  · rw [← eL]
    have hb1 : bk σ (gD_ σ r d i 10) (0 + 1) (0 + 10) := (bk.start rfl).more gD_cu.1 gD_cu.2
    exact wa_ra hx hb hr' hlocks hx1 hb1 hW2 rfl rfl dJ2_grow_2_59
theorem hd_J16_newLength : yJ16_newLength.cls = RJ16 ∧ yJ16_newLength.cls ≠ "java/lang/invoke/MethodHandle" ∧ yJ16_newLength.cls ≠ "java/lang/invoke/VarHandle" ∧ (parseMethodDescriptor yJ16_newLength.desc).map (fun d => d.parameters.length) = some 3 := by decide +kernel
theorem hd_J17_copyOf : yJ17_copyOf.cls = RJ17 ∧ yJ17_copyOf.cls ≠ "java/lang/invoke/MethodHandle" ∧ yJ17_copyOf.cls ≠ "java/lang/invoke/VarHandle" ∧ (parseMethodDescriptor yJ17_copyOf.desc).map (fun d => d.parameters.length) = some 2 := by decide +kernel
theorem hd_J17_copyOf_2 : yJ17_copyOf_2.cls = RJ17 ∧ yJ17_copyOf_2.cls ≠ "java/lang/invoke/MethodHandle" ∧ yJ17_copyOf_2.cls ≠ "java/lang/invoke/VarHandle" ∧ (parseMethodDescriptor yJ17_copyOf_2.desc).map (fun d => d.parameters.length) = some 3 := by decide +kernel
theorem c_newLength (g : wg_T) (l : Launch) (L : ly_T) (σ : st_T) (a b b' v : Int32) (hv : v = a + (if b < b' then b' else b)) (h1 : ¬ v ≤ 0) (h2 : ¬ 2147483639 < v) : CI g l yJ16_newLength (ws_ yJ16_newLength cJ16_newLength 4 (some .int)) 2 80 0 0 [.int a, .int b, .int b'] L σ v σ := by
  refine wbody.met (by decide) (Nat.le_of_ble_eq_true rfl) ?_
  intro p e s m args below meth c ls hx hb hr' hml hlocks hts hown hnm hW hl
  have hown : s.vm.findClass RJ16 = some m.cls := hown
  have hl : lv_has ls 4 [(0, .int a), (1, .int b), (2, .int b')] := hl
  refine lv_iload_n hx hb dJ16_newLength_0 rfl (lv_at hl 0 rfl) ?_
  refine lv_iload_n hx hb dJ16_newLength_1 rfl (lv_at hl 1 rfl) ?_
  refine lv_iload_n hx hb dJ16_newLength_2 rfl (lv_at hl 2 rfl) ?_
  refine va_mmax hx hb (hml.trans hl.1.symm) hown (hts _ q648) (hts _ q604) (hts _ q134) (hts _ q605) (Nat.le_of_ble_eq_true rfl) (Nat.le_of_ble_eq_true rfl) (Nat.zero_le _) (Nat.zero_le _) dJ16_newLength_3 ?_
  refine lv_iadd hx hb dJ16_newLength_6 ?_
  rw [← hv]
  refine lv_istore_n (lv' := [(3, .int v), (0, .int a), (1, .int b), (2, .int b')]) hx hb dJ16_newLength_7 rfl hl (by decide) rfl (fun ls hl => ?_)
  refine lv_iconst (v := 0) hx hb dJ16_newLength_8 (by decide) ?_
  refine lv_iload_n hx hb dJ16_newLength_9 rfl (lv_at hl 0 rfl) ?_
  refine lv_icmp_ge (tgt := 21) hx hb dJ16_newLength_10 (by decide) (fun h => absurd h h1) (fun _ => ?_)
  refine lv_iload_n hx hb dJ16_newLength_13 rfl (lv_at hl 0 rfl) ?_
  refine lv_ldc hx hb hown (hts _ q649) dJ16_newLength_14 ?_
  refine lv_icmp_gt (tgt := 21) hx hb dJ16_newLength_16 (by decide) (fun h => absurd h h2) (fun _ => ?_)
  refine lv_iload_n hx hb dJ16_newLength_19 rfl (lv_at hl 0 rfl) ?_
  exact we_i hx hb hr' hlocks hW rfl rfl (Nat.le_refl _) (Nat.le_refl _) dJ16_newLength_20
/-- what may stand in a list: a class that goes for an Object -/
def eq_ (q : Nat) : Prop := ∃ ci b N w : Nat, ∃ (C : String) (T : u_T), rK q = (0, ci, b) ∧ wcl[ci]? = some (C, T, N) ∧ xw_[w]? = some (.castable C "java/lang/Object")
theorem wv.obj {g : wg_T} {L : ly_T} {σ : st_T} {s : State} {H : Heap} {locs : List Loc} (hW : wv g L σ s H locs) {q j : Nat} (hq : eq_ q) (hp : pr σ q j) {comp : ClassId} (hc : s.vm.findClass "java/lang/Object" = some comp) : ∃ cell : Cell, H[L q j]? = some cell ∧ (∀ k, cell.vm ≠ .statics k) ∧ (∃ kC : Class, s.vm.classes[cell.cls]? = some kC) ∧ s.vm.assignable cell.cls comp = true := by
  obtain ⟨ci, b, N, w, C, T, h1, h2, h3⟩ := hq
  obtain ⟨cell, g1, g2, g3⟩ := ww_recv hW hp (obv_0 h1) h2
  obtain ⟨kC, hkC, -⟩ := Vm.findClass_spec g3
  obtain ⟨c0, t1, f1, f2, f3⟩ := Cond.castable_spec (va_Nw.use (A := #[]) rfl (hW.nw w h3))
  have e1 : c0 = cell.cls := Option.some.inj (f1.symm.trans g3)
  have e2 : t1 = comp := Option.some.inj (f2.symm.trans hc)
  subst e1 e2
  exact ⟨cell, g1, (fun k z => by rw [z] at g2; cases g2), ⟨kC, hkC⟩, f3⟩
theorem wv.ao {g : wg_T} {L : ly_T} {σ : st_T} {s : State} {H : Heap} {locs : List Loc} (hW : wv g L σ s H locs) : ∃ (kA : Class) (comp : ClassId), s.vm.classes[gC g 6]? = some kA ∧ kA.kind = .array comp (.object "java/lang/Object") ∧ s.vm.findClass "java/lang/Object" = some comp ∧ s.vm.findClass "[Ljava/lang/Object;" = some (gC g 6) := (hW.1.1.2 6 _ rfl).2
theorem ww_copyq {p : Program} {l : Launch} {e : Env} {R : Room} {s : State} {m : MethodId} {args : Array Value} {below : List Frame} {meth : Method} {c : Code} {H : Heap} {locs : List Loc} {cells slots : Nat} {Q : State → Prop} {cc : ByteArray} {pc : Nat} {ls : Array Slot} {rest : List Value} {g : wg_T} {L : ly_T} {σ : st_T} {own : String} (hexec : p.tables.exec = Jvm.exec) (hb : c.code = cc) (hml : c.maxLocals = ls.size) {index : Nat} (hown : s.vm.findClass own = some m.cls) (hlink : (Cond.methodLink own index arraycopyName).before args s = true) (hnat : (Cond.native arraycopyName).before args s = true) (hstat : (Cond.static arraycopyName).before args s = true) (hini : (Cond.initialized "java/lang/System").before args s = true)
    (hW : wv g L σ s H locs) {d i q n k a : Nat} (hp : pr σ d i) (hd : rK d = (5, q, 0)) (hq : eq_ q) (htg : ∀ j, j < gP_ σ d 1 i → pr σ q (gP_ σ d (2 + j) i)) (hal : ∀ r' i', pr σ r' i' → L r' i' ≠ a) (hza : gz g ≤ a) (hcell : H[a]? = some (vp_cell (gC g 6) (n, .inr (.inr (.inr (.inr fun _ => none)))))) {kv : Int32} (hkv : kv.toInt = (k : Int)) (h1 : k ≤ gP_ σ d 0 i) (h2 : k ≤ n) (hk2 : gP_ σ d 1 i ≤ k)
    (hframes : 1 ≤ R.frames) (hlocals : (rest.map fun v => v.category).sum + (nativeFrameWords "java/lang/System" "arraycopy" 5 + 11) ≤ R.locals) (hdg : decode cc pc = .ok (.invokestatic index, 3))
    (kk : ∀ (H1 : Heap) (locs1 : List Loc), H1.size = H.size → wv g L σ s H1 locs1 → H1[a]? = some (vp_cell (gC g 6) (n, .inr (.inr (.inr (.inr fun j => if j < gP_ σ d 1 i then some (L q (gP_ σ d (2 + j) i)) else none))))) → W p l e R s m args below meth c H1 locs1 cells slots Q (F0 m (pc + 3) ls rest)) : W p l e R s m args below meth c H locs cells slots Q (F0 m pc ls (.int kv :: .int 0 :: .ref a :: .int 0 :: .ref (L d i) :: rest)) := by
  have hc0 : H[L d i]? = some (vp_cell (gC g 6) (gP_ σ d 0 i, .inr (.inr (.inr (.inr fun j => if j < gP_ σ d 1 i then some (L q (gP_ σ d (2 + j) i)) else none))))) := by
    have := (hW.2.1.1 d i hp).1
    rw [wE_5 hd] at this
    exact this
  obtain ⟨kA, comp, a1, a2, a3, a4⟩ := hW.ao
  have hkk : kv.toNatClampNeg = k := by show kv.toInt.toNat = k; omega
  have h3 : ¬ kv < 0 := fun h => by rw [Int32.lt_iff_toInt_lt, Int32.toInt_zero] at h; omega
  intro T hT X
  obtain ⟨vm', X', step⟩ := X.arraycopy hexec hown hlink hnat hstat hini (src := L d i) (dst := a) (cs := vp_cell (gC g 6) (gP_ σ d 0 i, .inr (.inr (.inr (.inr fun j => if j < gP_ σ d 1 i then some (L q (gP_ σ d (2 + j) i)) else none))))) (cd := vp_cell (gC g 6) (n, .inr (.inr (.inr (.inr fun _ => none))))) (srcPos := 0) (destPos := 0) (n := kv) (by rw [hT]; exact hc0) (by rw [hT]; exact hcell)
    (fun _ h => by cases h) (fun _ h => by cases h) (fun h => by cases h) (fun h => by cases h) a1 a1 a2 a2 (by simp [refKind]) (by decide) (by decide) h3
    (by rw [Int32.toInt_zero, hkv]; show ¬ _ > ((arrV (gC g 6) (gP_ σ d 0 i) _).slots.size : Int); rw [arrV_size]; omega)
    (by rw [Int32.toInt_zero, hkv]; show ¬ _ > ((arrV (gC g 6) n _).slots.size : Int); rw [arrV_size]; omega)
    (fun vm₁ hal1 j hj => by
      rw [hkk] at hj
      have e : (vp_cell (gC g 6) (gP_ σ d 0 i, .inr (.inr (.inr (.inr fun j => if j < gP_ σ d 1 i then some (L q (gP_ σ d (2 + j) i)) else none))))).slots.getD ((0 : Int32).toNatClampNeg + j) .null = va_rf (if j < gP_ σ d 1 i then some (L q (gP_ σ d (2 + j) i)) else none) := by
        show (arrV (gC g 6) (gP_ σ d 0 i) (fun j => va_rf (if j < gP_ σ d 1 i then some (L q (gP_ σ d (2 + j) i)) else none))).slots.getD _ _ = _
        rw [show (0 : Int32).toNatClampNeg + j = j from Nat.zero_add j, Array.getD_eq_getD_getElem?, arrV_read _ _ (by omega)]
        rfl
      rw [e]
      by_cases hj2 : j < gP_ σ d 1 i
      · rw [if_pos hj2]
        obtain ⟨cell, b1, b2, ⟨kC, b3⟩, b4⟩ := hW.obj hq (htg j hj2) a3
        obtain ⟨kC', b5, -⟩ := hal1.2.2 _ _ b3
        obtain ⟨kO, b6, -⟩ := Vm.findClass_spec a3
        obtain ⟨kO', b7, -⟩ := hal1.2.2 _ _ b6
        exact ⟨rfl, cell, by show T.heap[_]? = _; rw [hT]; exact b1, b2, ⟨kC', b5⟩, ⟨kO', b7⟩, by show vm₁.assignable _ _ = true; rw [hal1.assignable]; exact b4⟩
      · rw [if_neg hj2]
        exact ⟨rfl, trivial⟩)
    (g := F0 m pc ls (.int kv :: .int 0 :: .ref a :: .int 0 :: .ref (L d i) :: rest)) rfl (by rw [hml]) (rest := rest) rfl (by rw [hb]; exact hdg) hframes (by show 2 * 0 + _ + _ ≤ _; omega)
  have e1 : copied (vp_cell (gC g 6) (gP_ σ d 0 i, .inr (.inr (.inr (.inr fun j => if j < gP_ σ d 1 i then some (L q (gP_ σ d (2 + j) i)) else none))))) (vp_cell (gC g 6) (n, .inr (.inr (.inr (.inr fun _ => none))))) 0 0 kv = vp_cell (gC g 6) (n, .inr (.inr (.inr (.inr fun j => if j < gP_ σ d 1 i then some (L q (gP_ σ d (2 + j) i)) else none)))) := by
    have h4 : (0 : Int32).toNatClampNeg + kv.toNatClampNeg ≤ gP_ σ d 0 i := by rw [hkk, show (0 : Int32).toNatClampNeg = 0 from rfl]; omega
    refine (va_copied va_rf (gC g 6) (gC g 6) (n1 := n) (dp := (0 : Int32).toNatClampNeg) (fun j => if j < gP_ σ d 1 i then some (L q (gP_ σ d (2 + j) i)) else none) (fun _ => none) h4).trans ?_
    refine congrArg (fun f : Nat → Option Nat => vp_cell (gC g 6) (n, Sum.inr (Sum.inr (Sum.inr (Sum.inr f))))) (funext fun j => ?_)
    unfold va_cpy
    rw [hkk, show (0 : Int32).toNatClampNeg = 0 from rfl]
    by_cases hj : j < k
    · rw [if_pos ⟨Nat.zero_le _, by omega⟩, show 0 + (j - 0) = j by omega]
    · rw [if_neg (fun z => hj (by omega)), if_neg (by omega)]
  rw [e1] at X' step
  generalize hcn : vp_cell (gC g 6) (n, .inr (.inr (.inr (.inr fun j => if j < gP_ σ d 1 i then some (L q (gP_ σ d (2 + j) i)) else none)))) = cn at X' step kk
  have hl : a < H.size := (Array.getElem?_eq_some_iff.mp hcell).1
  have hheap : ((T.setVm vm').setCell a cn).heap = H.setIfInBounds a cn := by rw [← hT]; rfl
  have oq : ∀ x : Nat, x ≠ a → (H.setIfInBounds a cn)[x]? = H[x]? := fun x hx => by simp [Array.getElem?_setIfInBounds, Ne.symm hx]
  obtain ⟨t, b1, b2⟩ := kk (H.setIfInBounds a cn) _ (by simp) ⟨hW.1, hW.2.1.kept (fun r' i' hp' => oq _ (hal r' i' hp')), ⟨by simp; exact hW.2.2.1.1, fun x g1 g2 => by
      rw [oq x (fun e => g2 (by rw [e]; exact hza))]
      exact hW.2.2.1.2.1 x g1 g2, fun x hx => by
      rcases List.mem_append.mp hx with h | h
      · exact hW.2.2.1.2.2 x h
      · obtain ⟨z, -, hz'⟩ := List.mem_map.mp h
        rw [← hz']
        exact hza⟩, hW.2.2.2⟩ (by simp [Array.getElem?_setIfInBounds, hl]) _ hheap X'
  exact ⟨t, step t b1, b2⟩
abbrev wCp (g : wg_T) (L : ly_T) (σ : st_T) (d i q n : Nat) : Array Value → State → Outcome → State → Prop := va_Qr (fun (a : Nat) => (∀ r' i', pr σ r' i' → L r' i' ≠ a) ∧ gz g ≤ a) (fun a ra t => ra = a ∧ wq g L σ t.heap ∧ t.heap[a]? = some (vp_cell (gC g 6) (n, .inr (.inr (.inr (.inr fun j => if j < gP_ σ d 1 i then some (L q (gP_ σ d (2 + j) i)) else none)))))) (fun q => gz g ≤ q)
theorem i32n {n : Nat} (h : n ≤ 10000) : (Int32.ofNat n).toInt = (n : Int) := Int32.toInt_ofNat_of_lt (by omega)
theorem i32nc {n : Nat} (h : n ≤ 10000) : (Int32.ofNat n).toNatClampNeg = n := by show (Int32.ofNat n).toInt.toNat = n; rw [i32n h]; omega
theorem i32nn {n : Nat} (h : n ≤ 10000) : ¬ Int32.ofNat n < 0 := fun z => by rw [Int32.lt_iff_toInt_lt, Int32.toInt_zero, i32n h] at z; omega
theorem c_c3 (g : wg_T) (l : Launch) (L : ly_T) (σ : st_T) (d i q n mi : Nat) (hd : rK d = (5, q, 0)) (hq : eq_ q) (hp : pr σ d i) (htg : ∀ j, j < gP_ σ d 1 i → pr σ q (gP_ σ d (2 + j) i)) (hcap : gP_ σ d 1 i ≤ gP_ σ d 0 i) (hcn : gP_ σ d 0 i ≤ n) (hn : n ≤ 10000) : Met l yJ17_copyOf_2 (ws_ yJ17_copyOf_2 cJ17_copyOf_2 4 (some (.array (.object "java/lang/Object")))) (wrm 4 160 1 n) (va_Pc [.ref (L d i), .int (Int32.ofNat n), .ref mi] (fun U => wd g L σ U ∧ va_Mi "[Ljava/lang/Object;" mi U)) (wCp g L σ d i q n) 1 n (fun q => gz g ≤ q) := by
  refine Met.ofW (cc := cJ17_copyOf_2) (maxL := 4) (ret := some (.array (.object "java/lang/Object"))) (by decide) rfl ?_
  intro p e s m args below meth c s₁ B hml hv
  obtain ⟨hav, hv, hM⟩ := hv
  have hl := lv_entry [.ref (L d i), .int (Int32.ofNat n), .ref mi] (show (lg_sl [.ref (L d i), .int (Int32.ofNat n), .ref mi]).length ≤ 4 from Nat.le_of_ble_eq_true rfl)
  have hts : ∀ w ∈ lw_all, w.before args s = true := fun w h => atoms_spec (ws := ws_ yJ17_copyOf_2 cJ17_copyOf_2 4 (some (.array (.object "java/lang/Object")))) B.pre w (List.mem_cons_of_mem _ h)
  have hx := B.exec
  have hb : c.code = cJ17_copyOf_2 := B.bytes
  have hr' : meth.sig.returnType = some (.array (.object "java/lang/Object")) := B.returns
  have hlocks := B.notSynchronized
  have hown : s.vm.findClass RJ17 = some m.cls := findClass_of_methodNamed B.named
  have hW := hv.start
  subst hav
  rw [lg_entry_eq]
  generalize (lg_sl [Value.ref (L d i), Value.int (Int32.ofNat n), Value.ref mi] ++ List.replicate (4 - (lg_sl [Value.ref (L d i), Value.int (Int32.ofNat n), Value.ref mi]).length) Slot.unset).toArray = ls at hl ⊢
  have hl : lv_has ls 4 [(0, .ref (L d i)), (1, .int (Int32.ofNat n)), (2, .ref mi)] := hl
  refine lv_aload_n hx hb dJ17_copyOf_2_0 rfl (lv_at hl 2 rfl) ?_
  refine va_ldcM hx hb hown (hts _ q689) hM dJ17_copyOf_2_1 ?_
  refine lv_acmp_ne (rx := some mi) (ry := some mi) (tgt := 13) hx hb dJ17_copyOf_2_3 (by decide) (fun h => absurd rfl h) (fun _ => ?_)
  refine lv_iload_n hx hb dJ17_copyOf_2_6 rfl (lv_at hl 1 rfl) ?_
  refine ww_anew hx hb hown (hts _ q691) hW (N := n) (i32nn hn) (i32nc hn) (by omega) (Nat.le_refl _) (by show 0 + n ≤ n; omega) dJ17_copyOf_2_7 (fun H1 z1 o1 e1 hW1 => ?_)
  have hal : ∀ r' i', pr σ r' i' → L r' i' ≠ s.heap.size := fun r' i' hp => Nat.ne_of_lt (hW.2.1.1 r' i' hp).1.lt
  have hza : gz g ≤ s.heap.size := hW.2.2.2
  refine lv_goto (tgt := 24) hx hb dJ17_copyOf_2_10 (by decide) ?_
  refine lv_astore_n (lv' := [(3, .ref s.heap.size), (0, .ref (L d i)), (1, .int (Int32.ofNat n)), (2, .ref mi)]) hx hb dJ17_copyOf_2_24 rfl hl (by decide) rfl (fun ls hl => ?_)
  refine lv_aload_n hx hb dJ17_copyOf_2_25 rfl (lv_at hl 1 rfl) ?_
  refine lv_iconst (v := 0) hx hb dJ17_copyOf_2_26 (by decide) ?_
  refine lv_aload_n hx hb dJ17_copyOf_2_27 rfl (lv_at hl 0 rfl) ?_
  refine lv_iconst (v := 0) hx hb dJ17_copyOf_2_28 (by decide) ?_
  refine lv_aload_n hx hb dJ17_copyOf_2_29 rfl (lv_at hl 1 rfl) ?_
  refine ww_dlen hx hb hW1 d i hp hd rfl dJ17_copyOf_2_30 ?_
  refine lv_iload_n hx hb dJ17_copyOf_2_31 rfl (lv_at hl 2 rfl) ?_
  refine va_mmin hx hb (hml.trans hl.1.symm) hown (hts _ q692) (hts _ q505) (hts _ q134) (hts _ q506) (Nat.le_of_ble_eq_true rfl) (Nat.le_of_ble_eq_true rfl) (Nat.le_refl _) (by show 0 + n ≤ n; omega) dJ17_copyOf_2_32 ?_
  have hmin : ∀ x : Int32, x = Int32.ofNat n → (if x < Int32.ofNat (gP_ σ d 0 i) then x else Int32.ofNat (gP_ σ d 0 i)) = Int32.ofNat (gP_ σ d 0 i) := by
    rintro x rfl
    rw [if_neg]
    intro z
    rw [Int32.lt_iff_toInt_lt, i32n hn, i32n (by omega)] at z
    omega
  rw [hmin _ rfl]
  refine ww_copyq (k := gP_ σ d 0 i) hx hb (hml.trans hl.1.symm) hown (hts _ q693) (hts _ q495) (hts _ q494) (hts _ q145) hW1 hp hd hq htg hal hza e1 (i32n (by omega)) (Nat.le_refl _) hcn hcap (Nat.le_of_ble_eq_true rfl) (Nat.le_of_ble_eq_true rfl) dJ17_copyOf_2_35 (fun H2 locs2 z2 hW2 e2 => ?_)
  refine lv_aload_n hx hb dJ17_copyOf_2_38 rfl (lv_at hl 0 rfl) ?_
  exact W.widen (show 0 + 1 ≤ 1 from Nat.le_refl _) (show 0 + n ≤ n by omega) (W.aret hx hb hr' (Or.inr ⟨_, rfl⟩) (Or.inr ⟨_, rfl⟩) (fun t ht hW' => ⟨⟨s.heap.size, _, rfl, ⟨hal, hza⟩, rfl, hW2.end ht, by rw [ht]; exact e2⟩, hW2.F ht⟩) hW2.locs dJ17_copyOf_2_39 hlocks)
theorem wdM.pre {g : wg_T} {L : ly_T} {σ : st_T} {s : State} {H : Heap} {locs : List Loc} {mi : Nat} {As : List Value} (hW : wv g L σ s H locs) (hM : va_Mi "[Ljava/lang/Object;" mi s) : PreS s H (va_Pc As (fun U => wd g L σ U ∧ va_Mi "[Ljava/lang/Object;" mi U)) As := by
  refine ⟨fun a U gg mk ⟨h1, h2, h3⟩ => ?_, fun U hU hW' => ⟨rfl, hW.pre hU hW', va_Mi.moved hW'.alike hM⟩⟩
  obtain ⟨k1, k2⟩ := wd.blind a U gg mk ⟨h1, h2⟩
  exact ⟨k1, k2, va_Mi.moved (State.WarmedH.refl U).alike h3⟩
theorem c_c2 (g : wg_T) (l : Launch) (L : ly_T) (σ : st_T) (d i q n : Nat) (hd : rK d = (5, q, 0)) (hq : eq_ q) (hp : pr σ d i) (htg : ∀ j, j < gP_ σ d 1 i → pr σ q (gP_ σ d (2 + j) i)) (hcap : gP_ σ d 1 i ≤ gP_ σ d 0 i) (hcn : gP_ σ d 0 i ≤ n) (hn : n ≤ 10000) : Met l yJ17_copyOf (ws_ yJ17_copyOf cJ17_copyOf 2 (some (.array (.object "java/lang/Object")))) (wrm 6 220 1 n) (va_Pc [.ref (L d i), .int (Int32.ofNat n)] (wd g L σ)) (wCp g L σ d i q n) 1 n (fun q => gz g ≤ q) := by
  refine wbody.met (by decide) (Nat.le_of_ble_eq_true rfl) ?_
  intro p e s m args below meth c ls hx hb hr' hml hlocks hts hown hnm hW hl
  have hown : s.vm.findClass RJ17 = some m.cls := hown
  have hl : lv_has ls 2 [(0, .ref (L d i)), (1, .int (Int32.ofNat n))] := hl
  obtain ⟨mi, hM⟩ := hW.1.2.2.2.2.2.2.2.2.2.2.2.2.2.2.1
  obtain ⟨kA, comp, a1, a2, a3, a4⟩ := hW.ao
  have hcell : ∃ cell : Cell, s.heap[L d i]? = some cell ∧ cell.vm.isStatics = false ∧ s.vm.findClass "[Ljava/lang/Object;" = some cell.cls := by
    have := (hW.2.1.1 d i hp).1
    rw [wE_5 hd] at this
    exact ⟨_, this, rfl, a4⟩
  refine lv_aload_n hx hb dJ17_copyOf_0 rfl (lv_at hl 0 rfl) ?_
  refine lv_iload_n hx hb dJ17_copyOf_1 rfl (lv_at hl 1 rfl) ?_
  refine lv_aload_n hx hb dJ17_copyOf_2 rfl (lv_at hl 0 rfl) ?_
  refine va_getC hx hb (hml.trans hl.1.symm) hown (hts _ q656) (va_Nw.use rfl (hW.nw 104 rfl)) (hts _ q2541) (hts _ q657) (hts _ q685) hM hcell (Nat.le_of_ble_eq_true rfl) (Nat.le_of_ble_eq_true rfl) dJ17_copyOf_3 ?_
  refine va_callr (va_runS (As := [.ref (L d i), .int (Int32.ofNat n), .ref mi]) (rest := []) ⟨hx, hb, hml, hown, hts⟩ (c_c3 g l L σ d i q n mi hd hq hp htg hcap hcn hn) (va_cwS 3 hts (lw_S q686 q687 q144 q688) rfl rfl rfl hd_J17_copyOf_2.2 ⟨(Nat.le_of_ble_eq_true rfl), (Nat.le_of_ble_eq_true rfl)⟩) (wdM.pre hW hM) rfl rfl hl.1 rfl (lv_room (Nat.le_of_ble_eq_true rfl)) dJ17_copyOf_6 ⟨by show 0 + 1 ≤ 1; omega, by show 0 + n ≤ n; omega⟩) hW.2.2.1 (fun q _ h => h) (fun q h => h) (fun u ra t H1 locs1 ht hvm hp1 hB hz hk hS => ?_)
  obtain ⟨rfl, hB, hC⟩ := hB
  have hW1 := hW.back ht hB hS
  exact W.widen (by omega) (by omega) (W.aret hx hb hr' (Or.inr ⟨_, rfl⟩) (Or.inr ⟨_, rfl⟩) (fun t' ht' hW' => ⟨⟨ra, _, rfl, hp1, rfl, hW1.end ht', by rw [ht', ← ht]; exact hC⟩, hW1.F ht'⟩) hW1.locs dJ17_copyOf_9 hlocks)
theorem c_AL_growC (g : wg_T) (l : Launch) (L : ly_T) (σ : st_T) (r i d q cap : Nat) (mc : Int32) (hd : lst_ r d q) (hq : eq_ q) (hso : so_ d = 0) (hpr : pr σ r i) (hfl : gP_ σ r 201 i ≠ 0) (h0 : gP_ σ r 1 i ≠ 0) (hi : i < gN_ σ d) (hc1 : gP_ σ d 1 i ≤ gP_ σ d 0 i) (htg : ∀ j, j < gP_ σ d 1 i → pr σ q (gP_ σ d (2 + j) i)) (hl1 : 1 ≤ gP_ σ d 0 i) (hcap : gP_ σ d 0 i ≤ cap) (hcap2 : cap ≤ 1000)
    (hv : Int32.ofNat cap = Int32.ofNat (gP_ σ d 0 i) + (if mc - Int32.ofNat (gP_ σ d 0 i) < Int32.ofNat (gP_ σ d 0 i) >>> (1 &&& 31) then Int32.ofNat (gP_ σ d 0 i) >>> (1 &&& 31) else mc - Int32.ofNat (gP_ σ d 0 i))) : AR g l yJ2_grow_2 (ws_ yJ2_grow_2 cJ2_grow_2 4 (some (.array (.object "java/lang/Object")))) 8 300 [.ref (L r i), .int mc] L σ d i (gD_ σ r d i cap) := by
  refine wbody.met (by decide) (Nat.le_of_ble_eq_true rfl) ?_
  intro p e s m args below meth c ls hx hb hr' hml hlocks hts hown hnm hW hl
  have hown : s.vm.findClass RJ2 = some m.cls := hown
  have hl : lv_has ls 4 [(0, .ref (L r i)), (1, .int mc)] := hl
  have hpd : pr σ d i := by unfold pr; rw [hd.2.2.2.1.1, Nat.one_mul, hd.2.2.2.2.1]; exact hi
  have hfv : fv g L σ r i 1 (4, d, 0) = .ref (L d i) := by
    rw [fv_p (fun z => by cases z) hfl]
    show Value.ref (if gP_ σ r 1 i = 0 then ge g else L d i) = _
    rw [if_neg h0]
  refine lv_aload_n hx hb dJ2_grow_2_0 rfl (lv_at hl 0 rfl) ?_
  refine ww_get (d := (4, d, 0)) hx hb hts hown hW r i 1 hpr (obv_0 hd.1) (by rw [hd.2.1]; rfl) in_J2 rfl (by decide) (hts _ q253) (fun _ h => h) dJ2_grow_2_1 ?_
  rw [hfv]
  refine ww_dlen hx hb hW d i hpd hd.2.2.1 rfl dJ2_grow_2_4 ?_
  refine lv_istore_n (lv' := [(2, .int (Int32.ofNat (gP_ σ d 0 i))), (0, .ref (L r i)), (1, .int mc)]) hx hb dJ2_grow_2_5 rfl hl (by decide) rfl (fun ls hl => ?_)
  refine lv_iload_n hx hb dJ2_grow_2_6 rfl (lv_at hl 0 rfl) ?_
  refine lv_if_gt (tgt := 20) hx hb dJ2_grow_2_7 (by decide) (fun _ => ?_) (fun h => absurd (by rw [Int32.lt_iff_toInt_lt, Int32.toInt_zero, i32n (by omega)]; omega) h)
  refine lv_iload_n hx hb dJ2_grow_2_20 rfl (lv_at hl 0 rfl) ?_
  refine lv_iload_n hx hb dJ2_grow_2_21 rfl (lv_at hl 2 rfl) ?_
  refine lv_iload_n hx hb dJ2_grow_2_22 rfl (lv_at hl 0 rfl) ?_
  refine lv_isub hx hb dJ2_grow_2_23 ?_
  refine lv_iload_n hx hb dJ2_grow_2_24 rfl (lv_at hl 0 rfl) ?_
  refine lv_iconst (v := 1) hx hb dJ2_grow_2_25 (by decide) ?_
  refine lv_ishr hx hb dJ2_grow_2_26 ?_
  have hrm : 0 + 1 ≤ cu_ (gD_ σ r d i cap) - cu_ σ ∧ 0 + cap ≤ su_ (gD_ σ r d i cap) - su_ σ := by rw [gD_cu.1, gD_cu.2]; omega
  refine ww_ci (va_runS (As := [.int _, .int _, .int _]) (rest := []) ⟨hx, hb, hml, hown, hts⟩ (c_newLength g l L σ _ _ _ _ hv (by rw [Int32.le_iff_toInt_le, Int32.toInt_zero, i32n (by omega)]; omega) (by rw [Int32.lt_iff_toInt_lt, i32n (by omega)]; show ¬ ((2147483639 : Int) < _); omega)) (va_cwS 3 hts (lw_S q645 q646 q143 q647) rfl rfl rfl hd_J16_newLength.2 ⟨(Nat.le_of_ble_eq_true rfl), (Nat.le_of_ble_eq_true rfl)⟩) (ww_preS hW) rfl rfl hl.1 rfl (lv_room (Nat.le_of_ble_eq_true rfl)) dJ2_grow_2_27 ⟨Nat.zero_le _, Nat.zero_le _⟩) hW (fun H locs hW => ?_)
  refine lv_istore_n (lv' := [(3, .int (Int32.ofNat cap)), (2, .int (Int32.ofNat (gP_ σ d 0 i))), (0, .ref (L r i)), (1, .int mc)]) hx hb dJ2_grow_2_30 rfl hl (by decide) rfl (fun ls hl => ?_)
  refine lv_aload_n hx hb dJ2_grow_2_31 rfl (lv_at hl 2 rfl) ?_
  refine lv_aload_n hx hb dJ2_grow_2_32 rfl (lv_at hl 2 rfl) ?_
  refine ww_get (d := (4, d, 0)) hx hb hts hown hW r i 1 hpr (obv_0 hd.1) (by rw [hd.2.1]; rfl) in_J2 rfl (by decide) (hts _ q253) (fun _ h => h) dJ2_grow_2_33 ?_
  rw [hfv]
  refine lv_iload_n hx hb dJ2_grow_2_36 rfl (lv_at hl 0 rfl) ?_
  refine va_callr (va_runS (As := [.ref (L d i), .int (Int32.ofNat cap)]) (rest := [.ref (L r i)]) ⟨hx, hb, hml, hown, hts⟩ (c_c2 g l L σ d i q cap hd.2.2.1 hq hpd htg hc1 hcap (by omega)) (va_cwS 2 hts (lw_S q653 q654 q144 q655) rfl rfl rfl hd_J17_copyOf.2 ⟨(Nat.le_of_ble_eq_true rfl), (Nat.le_of_ble_eq_true rfl)⟩) (ww_preS hW) rfl rfl hl.1 rfl (lv_room (Nat.le_of_ble_eq_true rfl)) dJ2_grow_2_37 hrm) hW.2.2.1 (fun q _ h => h) (fun q h => h) (fun u ra t H1 locs1 ht hvm hp1 hB hz hk hS => ?_)
  obtain ⟨e0, hB, hC⟩ := hB
  have e0 : ra = u := e0
  subst e0
  have hW1 := hW.back ht hB hS
  refine lv_dup_x1 hx hb dJ2_grow_2_40 rfl rfl ?_
  refine ww_putD (cap := cap) hx hb hts hown hW1 hd hso hpr (Nat.le_of_lt hi) hp1.1 hp1.2 (by rw [← ht]; exact hC) htg dJ2_grow_2_41 (fun H2 locs2 L1 eL hx1 hW2 => ?_)
  rw [← eL]
  have hb1 : bk σ (gD_ σ r d i cap) (0 + 1) (0 + cap) := (bk.start rfl).more gD_cu.1 gD_cu.2
  exact wa_ra hx hb hr' hlocks hx1 hb1 hW2 rfl rfl dJ2_grow_2_44
/-- what add does to the list's array: at first, anew, as it is -/
def adg_ (σ : st_T) (r d i : Nat) : Option st_T :=
  if gP_ σ r 1 i = 0 then (if gF_ σ r 2 i = 0 ∧ i ≤ gN_ σ d ∧ gP_ σ d 1 i = 0 then some (gD_ σ r d i 10) else none)
  else if i < gN_ σ d ∧ gF_ σ r 2 i = Int32.ofNat (gP_ σ d 1 i) ∧ gP_ σ d 1 i ≤ gP_ σ d 0 i ∧ 2 ≤ gP_ σ d 0 i ∧ gP_ σ d 0 i ≤ 600 then
    (if gP_ σ d 1 i = gP_ σ d 0 i then some (gD_ σ r d i (gP_ σ d 0 i + gP_ σ d 0 i / 2)) else some σ)
  else none
/-- the new one set at the list's end -/
def ads_ (σ : st_T) (r d i n : Nat) : st_T := sF_ (sP_ (sP_ σ d (2 + gP_ σ d 1 i) i n) d 1 i (gP_ σ d 1 i + 1)) r 2 i (gF_ σ r 2 i + 1)
def ad_ (σ : st_T) (r d i n : Nat) : Option st_T := (adg_ (sF_ σ r 0 i (gF_ σ r 0 i + 1)) r d i).bind fun σ1 => some (ads_ σ1 r d i n)
theorem half_ok {c : Nat} (h2 : 2 ≤ c) (hc : c ≤ 600) : Int32.ofNat (c + c / 2) = Int32.ofNat c + (if Int32.ofNat c + (1 : Int32) - Int32.ofNat c < Int32.ofNat c >>> ((1 : Int32) &&& 31) then Int32.ofNat c >>> ((1 : Int32) &&& 31) else Int32.ofNat c + (1 : Int32) - Int32.ofNat c) := by
  have h : ∀ c : Fin 601, 2 ≤ c.val → Int32.ofNat (c.val + c.val / 2) = Int32.ofNat c.val + (if Int32.ofNat c.val + (1 : Int32) - Int32.ofNat c.val < Int32.ofNat c.val >>> ((1 : Int32) &&& 31) then Int32.ofNat c.val >>> ((1 : Int32) &&& 31) else Int32.ofNat c.val + (1 : Int32) - Int32.ofNat c.val) := by decide +kernel
  exact h ⟨c, by omega⟩ h2
theorem c_AL_grow0 (g : wg_T) (l : Launch) (L : ly_T) (σ σ' : st_T) (r i d q : Nat) (hd : lst_ r d q) (hpr : pr σ r i) (hcu : cu_ σ ≤ cu_ σ' ∧ su_ σ ≤ su_ σ') (hG : AR g l yJ2_grow_2 (ws_ yJ2_grow_2 cJ2_grow_2 4 (some (.array (.object "java/lang/Object")))) 8 300 [.ref (L r i), .int (gF_ σ r 2 i + 1)] L σ d i σ') : AR g l yJ2_grow (ws_ yJ2_grow cJ2_grow 1 (some (.array (.object "java/lang/Object")))) 10 360 [.ref (L r i)] L σ d i σ' := by
  refine wbody.met (by decide) (Nat.le_of_ble_eq_true rfl) ?_
  intro p e s m args below meth c ls hx hb hr' hml hlocks hts hown hnm hW hl
  have hown : s.vm.findClass RJ2 = some m.cls := hown
  have hl : lv_has ls 1 [(0, .ref (L r i))] := hl
  refine lv_aload_n hx hb dJ2_grow_0 rfl (lv_at hl 0 rfl) ?_
  refine lv_aload_n hx hb dJ2_grow_1 rfl (lv_at hl 0 rfl) ?_
  refine ww_get (d := (0, 0, 0)) hx hb hts hown hW r i 2 hpr (obv_0 hd.1) (by rw [hd.2.1]; rfl) in_J2 rfl (by decide) (hts _ q254) (fun _ h => h) dJ2_grow_2 ?_
  refine lv_iconst (v := 1) hx hb dJ2_grow_5 (by decide) ?_
  refine lv_iadd hx hb dJ2_grow_6 ?_
  refine wa_cr (va_runV (As := [.int (gF_ σ r 2 i + 1)]) (rest := []) ⟨hx, hb, hml, hown, hts⟩ hG (cwV 1 hts (lw_V q641 q643 qs8 q117 q644) rfl rfl rfl hd_J2_grow_2 ⟨(Nat.le_of_ble_eq_true rfl), (Nat.le_of_ble_eq_true rfl)⟩) (ww_preV hW hpr (obv_0 hd.1) rfl) rfl rfl hl.1 rfl (lv_room (Nat.le_of_ble_eq_true rfl)) dJ2_grow_7 ⟨Nat.le_of_eq (Nat.zero_add _), Nat.le_of_eq (Nat.zero_add _)⟩) hW (fun H locs L1 hx1 hW => ?_)
  exact wa_ra hx hb hr' hlocks hx1 ((bk.start rfl).call hcu) hW rfl rfl dJ2_grow_10
theorem vq_ads {σ : st_T} {d i q n : Nat} (h : vq σ) (hd : rK d = (5, q, 0)) (hn : pr σ q n) : vq (sP_ (sP_ σ d (2 + gP_ σ d 1 i) i n) d 1 i (gP_ σ d 1 i + 1)) := by
  intro r' i' hp q' j' ht
  have hp0 : pr σ r' i' := hp
  show pr σ q' j'
  by_cases e : r' = d ∧ i' = i
  · obtain ⟨rfl, rfl⟩ := e
    rcases ht with ⟨ci, fk, k, dd, (⟨b, h1, -⟩ | ⟨x, b, h1, -⟩), -⟩ | ⟨t, m, c, (h1 | h1), -⟩ | ⟨m, c, h1, h2, h3⟩
    · rw [hd] at h1; cases h1
    · rw [hd] at h1; cases h1
    · rw [hd] at h1; cases h1
    · rw [hd] at h1; cases h1
    · rw [hd] at h1
      cases h1
      rw [gP_sP, if_pos ⟨rfl, rfl, rfl⟩] at h2
      rw [gP_sP, if_neg (fun z => by omega), gP_sP] at h3
      by_cases ec : c = gP_ σ r' 1 i'
      · rw [if_pos ⟨rfl, by omega, rfl⟩] at h3
        rw [h3]
        exact hn
      · rw [if_neg (fun z => by omega)] at h3
        exact h r' i' hp0 _ _ (Or.inr (Or.inr ⟨_, c, hd, by omega, h3⟩))
  · refine h r' i' hp0 q' j' (tg_ext (fun k => ?_) ht)
    rw [gP_sP, if_neg (fun z => e ⟨z.1, z.2.2⟩), gP_sP, if_neg (fun z => e ⟨z.1, z.2.2⟩)]
theorem rdy_ads {σ : st_T} {d i a b : Nat} {x y : Nat} (hf : fk_ d = []) (h : rdy σ) : rdy (sP_ (sP_ σ d a i x) d b i y) := by
  refine ⟨h.1, fun r' i' k dd hr hp hk h0 => ?_⟩
  by_cases e : r' = d
  · rw [e, hf] at hk; cases hk
  · rw [gP_sP, if_neg (fun z => e z.1), gP_sP, if_neg (fun z => e z.1)]
    exact h.2 r' i' k dd hr hp hk h0
theorem ww_aastL {p : Program} {l : Launch} {e : Env} {R : Room} {s : State} {m : MethodId} {args : Array Value} {below : List Frame} {meth : Method} {c : Code} {H : Heap} {locs : List Loc} {cells slots : Nat} {Q : State → Prop} {cc : ByteArray} {pc : Nat} {ls : Array Slot} {rest : List Value} {g : wg_T} {L : ly_T} {σ : st_T} (hexec : p.tables.exec = Jvm.exec) (hb : c.code = cc) (hW : wv g L σ s H locs) {d i q n : Nat} (hp : pr σ d i) (hd : rK d = (5, q, 0)) (hfk : fk_ d = []) (hq : eq_ q) (hn : pr σ q n) (hcap : gP_ σ d 1 i < gP_ σ d 0 i) (hc1 : gP_ σ d 0 i ≤ 1000) (hdg : decode cc pc = .ok (.aastore, 1))
    (kk : ∀ (H1 : Heap) (locs1 : List Loc), wv g L (sP_ (sP_ σ d (2 + gP_ σ d 1 i) i n) d 1 i (gP_ σ d 1 i + 1)) s H1 locs1 → W p l e R s m args below meth c H1 locs1 cells slots Q (F0 m (pc + 1) ls rest)) : W p l e R s m args below meth c H locs cells slots Q (F0 m pc ls (.ref (L q n) :: .int (Int32.ofNat (gP_ σ d 1 i)) :: .ref (L d i) :: rest)) := by
  have hP := (hW.2.1.1 d i hp).1
  rw [wE_5 hd] at hP
  have hP : H[L d i]? = some (vp_cell (gC g 6) (gP_ σ d 0 i, .inr (.inr (.inr (.inr fun j => if j < gP_ σ d 1 i then some (L q (gP_ σ d (2 + j) i)) else none))))) := hP
  obtain ⟨kA, comp, a1, a2, a3, a4⟩ := hW.ao
  obtain ⟨cell, b1, b2, ⟨kC, b3⟩, b4⟩ := hW.obj hq hn a3
  obtain ⟨kO, b6, -⟩ := Vm.findClass_spec a3
  refine W.aast hexec hb hP (fun q h => by cases h) (fun h => by cases h) a1 a2 rfl b6 ⟨i32nn (by omega), by rw [i32nc (by omega)]; show _ < (arrV _ _ _).slots.size; rw [arrV_size]; exact hcap⟩ b1 b2 b3 b4 rfl rfl hdg fun H1 e z oq => ?_
  rw [i32nc (by omega)] at e
  refine kk H1 _ (hW.put hp ?_ z oq (fun r' i' h => wE_ext (fun _ => rfl) rfl (fun k => by rw [gP_sP, if_neg (fun z => h ⟨z.1, z.2.2⟩), gP_sP, if_neg (fun z => h ⟨z.1, z.2.2⟩)]) rfl) rfl (fun h => vq_ads h hd hn) (rdy_ads hfk))
  rw [wE_5 hd]
  show H1[L d i]? = some (vp_cell _ _)
  have p0 : gP_ (sP_ (sP_ σ d (2 + gP_ σ d 1 i) i n) d 1 i (gP_ σ d 1 i + 1)) d 0 i = gP_ σ d 0 i := by rw [gP_sP, if_neg (fun z => by omega), gP_sP, if_neg (fun z => by omega)]
  have p1 : gP_ (sP_ (sP_ σ d (2 + gP_ σ d 1 i) i n) d 1 i (gP_ σ d 1 i + 1)) d 1 i = gP_ σ d 1 i + 1 := by rw [gP_sP, if_pos ⟨rfl, rfl, rfl⟩]
  have p2 : ∀ j, gP_ (sP_ (sP_ σ d (2 + gP_ σ d 1 i) i n) d 1 i (gP_ σ d 1 i + 1)) d (2 + j) i = if j = gP_ σ d 1 i then n else gP_ σ d (2 + j) i := by
    intro j
    rw [gP_sP, if_neg (fun z => by omega), gP_sP]
    by_cases hj : j = gP_ σ d 1 i
    · rw [if_pos ⟨rfl, by omega, rfl⟩, if_pos hj]
    · rw [if_neg (fun z => by omega), if_neg hj]
  rw [e, vp_cell_q, vp_cell_q, arrV_store, p0]
  congr 2
  funext j
  rw [p1, p2]
  by_cases hj : j = gP_ σ d 1 i
  · rw [if_pos hj, if_pos (by omega)]
    simp [updV, va_rf, hj]
  · rw [if_neg hj]
    by_cases hj2 : j < gP_ σ d 1 i
    · rw [if_pos (by omega)]
      simp [updV, hj, hj2]
    · rw [if_neg (by omega)]
      simp [updV, hj, hj2]
theorem add2_tail {p : Program} {l : Launch} {e : Env} {fr lo : Nat} {s : State} {m : MethodId} {args : Array Value} {below : List Frame} {meth : Method} {c : Code} {H : Heap} {locs : List Loc} {cells slots : Nat} {ls : Array Slot} {g : wg_T} {L L0 : ly_T} {σ σ0 : st_T} {r i d q n : Nat} {sz : Int32} (hx : p.tables.exec = Jvm.exec) (hb : c.code = cJ2_add_2) (hr' : meth.sig.returnType = none) (hlocks : meth.locks = false) (hts : ∀ w ∈ lw_all, w.before args s = true) (hown : s.vm.findClass RJ2 = some m.cls) (hx0 : lext L0 σ0 L σ) (hcs : bk σ0 σ cells slots) (hW : wv g L σ s H locs) (hd : lst_ r d q) (hq : eq_ q) (hpr : pr σ r i) (hpn : pr σ q n) (hi : i < gN_ σ d) (hcap : gP_ σ d 1 i < gP_ σ d 0 i) (hc1 : gP_ σ d 0 i ≤ 1000) (hsz : sz = Int32.ofNat (gP_ σ d 1 i)) (hsf : gF_ σ r 2 i = sz)
    (hl : lv_has ls 4 [(2, .ref (L d i)), (0, .ref (L r i)), (1, .ref (L q n)), (3, .int sz)]) : W p l e (wrA fr lo σ0 (ads_ σ r d i n)) s m args below meth c H locs cells slots (MQ below (wAv g L0 σ0 (ads_ σ r d i n)) args s (cu_ (ads_ σ r d i n) - cu_ σ0) (su_ (ads_ σ r d i n) - su_ σ0) (fun q => gz g ≤ q)) (F0 m 11 ls []) := by
  have hpd : pr σ d i := by unfold pr; rw [hd.2.2.2.1.1, Nat.one_mul, hd.2.2.2.2.1]; exact hi
  have hne : d ≠ 250 := hd.2.2.2.1.2.1
  subst hsz
  refine lv_aload_n hx hb dJ2_add_2_11 rfl (lv_at hl 0 rfl) ?_
  refine lv_iload_n hx hb dJ2_add_2_12 rfl (lv_at hl 3 rfl) ?_
  refine lv_aload_n hx hb dJ2_add_2_13 rfl (lv_at hl 2 rfl) ?_
  refine ww_aastL hx hb hW hpd hd.2.2.1 hd.2.2.2.2.2.2.2.2.2.2.1 hq hpn hcap hc1 dJ2_add_2_14 (fun H locs hW => ?_)
  obtain ⟨hx0, hcs⟩ := lx_s (σ1 := sP_ (sP_ σ d (2 + gP_ σ d 1 i) i n) d 1 i (gP_ σ d 1 i + 1)) hx0 hcs ⟨rfl, fun k => by rw [gP_sP, if_neg (fun z => hne z.1.symm), gP_sP, if_neg (fun z => hne z.1.symm)]⟩
  refine lv_aload_n hx hb dJ2_add_2_15 rfl (lv_at hl 1 rfl) ?_
  refine lv_iload_n hx hb dJ2_add_2_16 rfl (lv_at hl 3 rfl) ?_
  refine lv_iconst (v := 1) hx hb dJ2_add_2_17 (by decide) ?_
  refine lv_iadd hx hb dJ2_add_2_18 ?_
  refine ww_put (q := 0) (j := 0) hx hb hts hown hW r i 2 hpr (obv_0 hd.1) (by rw [hd.2.1]; rfl) in_J2 tyJ2_ok nmJ2 rfl (by decide) (Or.inl (hts _ q254)) (fun _ h => h) rfl rfl rfl rfl dJ2_add_2_19 (fun H locs hW => ?_)
  obtain ⟨hx0, hcs⟩ := lx_s (σ1 := ads_ σ r d i n) hx0 hcs ⟨rfl, fun _ => rfl⟩
  have hW : wv g L (ads_ σ r d i n) s H locs := by unfold ads_; rw [hsf]; exact hW
  exact wa_v hx hb hr' hlocks hx0 hcs hW rfl dJ2_add_2_22
theorem c_AL_add2 (g : wg_T) (l : Launch) (L : ly_T) (σ σ1 : st_T) (r i d q n : Nat) (hd : lst_ r d q) (hq : eq_ q) (hso : so_ d = 0) (hpr : pr σ r i) (hpn : pr σ q n) (hfl : gP_ σ r 201 i ≠ 0) (hg : adg_ σ r d i = some σ1) : AV g l yJ2_add_2 (ws_ yJ2_add_2 cJ2_add_2 4 none) 12 420 [.ref (L r i), .ref (L q n), .ref (if gP_ σ r 1 i = 0 then ge g else L d i), .int (gF_ σ r 2 i)] L σ (ads_ σ1 r d i n) := by
  have hr5 : (rK r).1 ≠ 5 := by rw [hd.1]; exact fun z => by cases z
  have hq5 : (rK q).1 ≠ 5 := by obtain ⟨ci, b, N, w, C, T, h1, -⟩ := hq; rw [h1]; exact fun z => by cases z
  have hne : d ≠ 250 := hd.2.2.2.1.2.1
  have hrd : r ≠ d := hd.2.2.2.2.2.1
  refine wbody.met (by decide) (Nat.le_of_ble_eq_true rfl) ?_
  intro p e s m args below meth c ls hx hb hr' hml hlocks hts hown hnm hW hl
  have hown : s.vm.findClass RJ2 = some m.cls := hown
  have hl : lv_has ls 4 [(0, .ref (L r i)), (1, .ref (L q n)), (2, .ref (if gP_ σ r 1 i = 0 then ge g else L d i)), (3, .int (gF_ σ r 2 i))] := hl
  have hcg : ∀ cap, cu_ (ads_ (gD_ σ r d i cap) r d i n) = cu_ σ + 1 ∧ su_ (ads_ (gD_ σ r d i cap) r d i n) = su_ σ + cap := fun cap => by
    constructor
    · show gP_ (sP_ (sP_ _ _ _ _ _) _ _ _ _) 250 0 0 = _
      rw [gP_sP, if_neg (fun z => hne z.1.symm), gP_sP, if_neg (fun z => hne z.1.symm)]
      rfl
    · show gP_ (sP_ (sP_ _ _ _ _ _) _ _ _ _) 250 1 0 = _
      rw [gP_sP, if_neg (fun z => hne z.1.symm), gP_sP, if_neg (fun z => hne z.1.symm)]
      rfl
  unfold adg_ at hg
  refine lv_iload_n hx hb dJ2_add_2_0 rfl (lv_at hl 3 rfl) ?_
  refine lv_aload_n hx hb dJ2_add_2_1 rfl (lv_at hl 2 rfl) ?_
  by_cases h0 : gP_ σ r 1 i = 0
  · rw [if_pos h0] at hg
    obtain ⟨⟨hs0, hi0, hc0⟩, hg⟩ := ww_chk hg
    cases hg
    rw [if_pos h0]
    refine ww_elen hx hb hW dJ2_add_2_2 ?_
    refine lv_icmp_ne (tgt := 11) hx hb dJ2_add_2_3 (by decide) (fun h => absurd hs0 h) (fun _ => ?_)
    refine lv_aload_n hx hb dJ2_add_2_6 rfl (lv_at hl 0 rfl) ?_
    have hG := c_AL_growB g l L σ r i d q hd hso hpr hfl h0 hi0 hc0
    rw [show (1 : Int32) = gF_ σ r 2 i + 1 by rw [hs0]; rfl] at hG
    have hcu : cu_ σ ≤ cu_ (gD_ σ r d i 10) ∧ su_ σ ≤ su_ (gD_ σ r d i 10) := by rw [gD_cu.1, gD_cu.2]; omega
    refine wa_cr (va_runV (As := []) (rest := []) ⟨hx, hb, hml, hown, hts⟩ (c_AL_grow0 g l L σ _ r i d q hd hpr hcu hG) (cwV 0 hts (lw_V q637 q639 qs7 q117 q640) rfl rfl rfl hd_J2_grow ⟨(Nat.le_of_ble_eq_true rfl), (Nat.le_of_ble_eq_true rfl)⟩) (ww_preV hW hpr (obv_0 hd.1) rfl) rfl rfl hl.1 rfl (lv_room (Nat.le_of_ble_eq_true rfl)) dJ2_add_2_7 ⟨by show 0 + (cu_ (gD_ σ r d i 10) - cu_ σ) ≤ cu_ _ - cu_ σ; rw [(hcg 10).1, gD_cu.1]; omega, by show 0 + (su_ (gD_ σ r d i 10) - su_ σ) ≤ su_ _ - su_ σ; rw [(hcg 10).2, gD_cu.2]; omega⟩) hW (fun H locs L1 hx1 hW => ?_)
    have hl : lv_has ls 4 [(0, .ref (L1 r i)), (1, .ref (L1 q n)), (2, .ref (if gP_ σ r 1 i = 0 then ge g else L d i)), (3, .int (gF_ σ r 2 i))] := by rw [hx1.at hpr hr5, hx1.at hpn hq5]; exact hl
    refine lv_astore_n (lv' := [(2, .ref (L1 d i)), (0, .ref (L1 r i)), (1, .ref (L1 q n)), (3, .int (gF_ σ r 2 i))]) hx hb dJ2_add_2_10 rfl hl (by decide) rfl (fun ls hl => ?_)
    refine add2_tail hx hb hr' hlocks hts hown hx1 ((bk.start rfl).call hcu) hW hd hq (hx1.prs hpr) (hx1.prs hpn) ?_ ?_ ?_ ?_ rfl hl
    · show i < if d = d then max (gN_ σ d) (i + 1) else gN_ σ d
      rw [if_pos rfl]
      omega
    · rw [gP_gD hne, if_neg (fun z => by omega), if_neg (fun z => hrd z.1.symm), gP_gD hne, if_pos ⟨rfl, rfl, rfl⟩, hc0]
      omega
    · rw [gP_gD hne, if_pos ⟨rfl, rfl, rfl⟩]
      omega
    · rw [gP_gD hne, if_neg (fun z => by omega), if_neg (fun z => hrd z.1.symm), hc0]
      exact hs0.trans rfl
  · rw [if_neg h0] at hg
    obtain ⟨⟨hi1, hs1, hc1, hc2, hc3⟩, hg⟩ := ww_chk hg
    rw [if_neg h0]
    have hpd : pr σ d i := by unfold pr; rw [hd.2.2.2.1.1, Nat.one_mul, hd.2.2.2.2.1]; exact hi1
    refine ww_dlen hx hb hW d i hpd hd.2.2.1 rfl dJ2_add_2_2 ?_
    by_cases hf : gP_ σ d 1 i = gP_ σ d 0 i
    · rw [if_pos hf] at hg
      cases hg
      refine lv_icmp_ne (tgt := 11) hx hb dJ2_add_2_3 (by decide) (fun h => absurd (by rw [hs1, hf]) h) (fun _ => ?_)
      refine lv_aload_n hx hb dJ2_add_2_6 rfl (lv_at hl 0 rfl) ?_
      have hG := c_AL_growC g l L σ r i d q (gP_ σ d 0 i + gP_ σ d 0 i / 2) (gF_ σ r 2 i + 1) hd hq hso hpr hfl h0 hi1 hc1 (fun j hj => hW.2.1.2.2.1 d i hpd _ _ (Or.inr (Or.inr ⟨_, j, hd.2.2.1, hj, rfl⟩))) (by omega) (by omega) (by omega) (by rw [hs1, hf]; exact half_ok hc2 hc3)
      have hcu : cu_ σ ≤ cu_ (gD_ σ r d i (gP_ σ d 0 i + gP_ σ d 0 i / 2)) ∧ su_ σ ≤ su_ (gD_ σ r d i (gP_ σ d 0 i + gP_ σ d 0 i / 2)) := by rw [gD_cu.1, gD_cu.2]; omega
      refine wa_cr (va_runV (As := []) (rest := []) ⟨hx, hb, hml, hown, hts⟩ (c_AL_grow0 g l L σ _ r i d q hd hpr hcu hG) (cwV 0 hts (lw_V q637 q639 qs7 q117 q640) rfl rfl rfl hd_J2_grow ⟨(Nat.le_of_ble_eq_true rfl), (Nat.le_of_ble_eq_true rfl)⟩) (ww_preV hW hpr (obv_0 hd.1) rfl) rfl rfl hl.1 rfl (lv_room (Nat.le_of_ble_eq_true rfl)) dJ2_add_2_7 ⟨by show 0 + (cu_ (gD_ σ r d i _) - cu_ σ) ≤ cu_ _ - cu_ σ; rw [(hcg _).1, gD_cu.1]; omega, by show 0 + (su_ (gD_ σ r d i _) - su_ σ) ≤ su_ _ - su_ σ; rw [(hcg _).2, gD_cu.2]; omega⟩) hW (fun H locs L1 hx1 hW => ?_)
      have hl : lv_has ls 4 [(0, .ref (L1 r i)), (1, .ref (L1 q n)), (2, .ref (if gP_ σ r 1 i = 0 then ge g else L d i)), (3, .int (gF_ σ r 2 i))] := by rw [hx1.at hpr hr5, hx1.at hpn hq5]; exact hl
      refine lv_astore_n (lv' := [(2, .ref (L1 d i)), (0, .ref (L1 r i)), (1, .ref (L1 q n)), (3, .int (gF_ σ r 2 i))]) hx hb dJ2_add_2_10 rfl hl (by decide) rfl (fun ls hl => ?_)
      refine add2_tail hx hb hr' hlocks hts hown hx1 ((bk.start rfl).call hcu) hW hd hq (hx1.prs hpr) (hx1.prs hpn) ?_ ?_ ?_ ?_ rfl hl
      · exact Nat.lt_of_lt_of_le hi1 (hx1.2.1 d)
      · rw [gP_gD hne, if_neg (fun z => by omega), if_neg (fun z => hrd z.1.symm), gP_gD hne, if_pos ⟨rfl, rfl, rfl⟩]
        omega
      · rw [gP_gD hne, if_pos ⟨rfl, rfl, rfl⟩]
        omega
      · rw [gP_gD hne, if_neg (fun z => by omega), if_neg (fun z => hrd z.1.symm)]
        exact hs1
    · rw [if_neg hf] at hg
      cases hg
      refine lv_icmp_ne (tgt := 11) hx hb dJ2_add_2_3 (by decide) (fun _ => ?_) (fun h => absurd h (fun z => hf (by have := congrArg Int32.toInt (hs1.symm.trans z); rw [i32n (by omega), i32n (by omega)] at this; omega)))
      rw [if_neg h0] at hl
      exact add2_tail hx hb hr' hlocks hts hown lext.refl (bk.start rfl) hW hd hq hpr hpn hi1 (by omega) (by omega) hs1 rfl (lv_sub hl [2, 0, 1, 3] rfl)
theorem c_AL_add (g : wg_T) (l : Launch) (L : ly_T) (σ σ' : st_T) (r i d q n : Nat) (hd : lst_ r d q) (hq : eq_ q) (hso : so_ d = 0) (hpr : pr σ r i) (hpn : pr σ q n) (hfl : gP_ σ r 201 i ≠ 0) (hg : ad_ σ r d i n = some σ') (hcu : cu_ σ ≤ cu_ σ' ∧ su_ σ ≤ su_ σ') : AI g l yJ2_add (ws_ yJ2_add cJ2_add 2 (some .boolean)) 14 470 [.ref (L r i), .ref (L q n)] L σ 1 σ' := by
  refine wbody.met (by decide) (Nat.le_of_ble_eq_true rfl) ?_
  intro p e s m args below meth c ls hx hb hr' hml hlocks hts hown hnm hW hl
  have hown : s.vm.findClass RJ2 = some m.cls := hown
  have hl : lv_has ls 2 [(0, .ref (L r i)), (1, .ref (L q n))] := hl
  unfold ad_ at hg
  obtain ⟨σ1, hg, hg2⟩ := ww_bnd hg
  have hg2 : σ' = ads_ σ1 r d i n := (Option.some.inj hg2).symm
  refine lv_aload_n hx hb dJ2_add_0 rfl (lv_at hl 0 rfl) ?_
  refine lv_dup hx hb dJ2_add_1 rfl ?_
  refine ww_get (d := (0, 0, 0)) hx hb hts hown hW r i 0 hpr (obv_0 hd.1) (by rw [hd.2.1]; rfl) in_J2 rfl (by decide) (hts _ q256) (fun x h => u_same (hts _ q257) x h) dJ2_add_2 ?_
  refine lv_iconst (v := 1) hx hb dJ2_add_5 (by decide) ?_
  refine lv_iadd hx hb dJ2_add_6 ?_
  refine ww_put (v := gF_ σ r 0 i + 1) (q := 0) (j := 0) hx hb hts hown hW r i 0 hpr (obv_0 hd.1) (by rw [hd.2.1]; rfl) in_J2 tyJ2_ok nmJ2 rfl (by decide) (Or.inl (hts _ q256)) (fun x h => u_same (hts _ q257) x h) rfl rfl rfl rfl dJ2_add_7 (fun H locs hW => ?_)
  have hfv : fv g L (sF_ σ r 0 i (gF_ σ r 0 i + 1)) r i 1 (4, d, 0) = .ref (if gP_ (sF_ σ r 0 i (gF_ σ r 0 i + 1)) r 1 i = 0 then ge g else L d i) := fv_p (fun z => by cases z) hfl
  refine lv_aload_n hx hb dJ2_add_10 rfl (lv_at hl 0 rfl) ?_
  refine lv_aload_n hx hb dJ2_add_11 rfl (lv_at hl 1 rfl) ?_
  refine lv_aload_n hx hb dJ2_add_12 rfl (lv_at hl 0 rfl) ?_
  refine ww_get (d := (4, d, 0)) hx hb hts hown hW r i 1 hpr (obv_0 hd.1) (by rw [hd.2.1]; rfl) in_J2 rfl (by decide) (hts _ q253) (fun _ h => h) dJ2_add_13 ?_
  rw [hfv]
  refine lv_aload_n hx hb dJ2_add_16 rfl (lv_at hl 0 rfl) ?_
  refine ww_get (d := (0, 0, 0)) hx hb hts hown hW r i 2 hpr (obv_0 hd.1) (by rw [hd.2.1]; rfl) in_J2 rfl (by decide) (hts _ q254) (fun _ h => h) dJ2_add_17 ?_
  obtain ⟨hx0, hcs⟩ := lx_s (L := L) (σ1 := sF_ σ r 0 i (gF_ σ r 0 i + 1)) lext.refl (bk.start rfl) kp_F
  have hcu' : cu_ (sF_ σ r 0 i (gF_ σ r 0 i + 1)) ≤ cu_ (ads_ σ1 r d i n) ∧ su_ (sF_ σ r 0 i (gF_ σ r 0 i + 1)) ≤ su_ (ads_ σ1 r d i n) := by rw [← hg2]; exact hcu
  refine wa_cv (va_runV (As := [.ref (L q n), .ref (if gP_ (sF_ σ r 0 i (gF_ σ r 0 i + 1)) r 1 i = 0 then ge g else L d i), .int (gF_ (sF_ σ r 0 i (gF_ σ r 0 i + 1)) r 2 i)]) (rest := []) ⟨hx, hb, hml, hown, hts⟩ (c_AL_add2 g l L (sF_ σ r 0 i (gF_ σ r 0 i + 1)) σ1 r i d q n hd hq hso hpr hpn hfl hg) (cwV 3 hts (lw_V q633 q635 qs6 q117 q636) rfl rfl rfl hd_J2_add_2 ⟨(Nat.le_of_ble_eq_true rfl), (Nat.le_of_ble_eq_true rfl)⟩) (ww_preV hW hpr (obv_0 hd.1) rfl) rfl rfl hl.1 rfl (lv_room (Nat.le_of_ble_eq_true rfl)) dJ2_add_20 ⟨by rw [hg2]; exact Nat.le_of_eq (Nat.zero_add _), by rw [hg2]; exact Nat.le_of_eq (Nat.zero_add _)⟩) hW (fun H locs L1 hx1 hW => ?_)
  refine lv_iconst (v := 1) hx hb dJ2_add_23 (by decide) ?_
  rw [← hg2] at hx1 hW hcu' ⊢
  exact wa_z hx hb hr' hlocks (hx0.trans hx1) (hcs.call hcu') hW (Or.inr rfl) rfl rfl dJ2_add_24
theorem only_of {d r : Nat} (h1 : ((List.range 220).all fun r' => (fk_ r').all fun x => !(x.2.1 == d) || x.1 == 0 || (x.1 == 4 && r' == r)) = true) (h2 : ((List.range 220).all fun r' => !((rK r').2.1 == d) || !((rK r').1 == 3 || (rK r').1 == 4 || (rK r').1 == 5)) = true) (h3 : d ≠ 91) : ∀ (σ : st_T) (r' i' j' : Nat), tg σ r' i' d j' → r' = r ∧ j' = i' := by
  intro σ r' i' j' ht
  have hlt : ∀ x, (rK r').1 = x → x ≠ 9 → r' < 220 := by
    intro x hx h9
    by_cases z : r' < 220
    · exact z
    · refine absurd ?_ h9
      rw [← hx]
      unfold rK rt_
      rw [List.getD_eq_getElem?_getD, List.getElem?_eq_none (Nat.le_trans (Nat.le_of_ble_eq_true rfl) (Nat.not_lt.mp z))]
      rfl
  rcases ht with ⟨ci, fk, k, dd, (⟨b, hr, rfl⟩ | ⟨x, b, hr, -, rfl⟩), hk, -, hd⟩ | ⟨t, n, c, hr, -⟩ | ⟨n, c, hr, -⟩
  · have hlt := hlt 0 (by rw [hr]) (by decide)
    have h4 := List.all_eq_true.mp (List.all_eq_true.mp h1 r' (List.mem_range.mpr hlt)) dd (List.mem_of_getElem? hk)
    obtain ⟨a, q', j0⟩ := dd
    match a, hd, h4 with
    | 0, hd, _ => exact hd.elim
    | 1, hd, h4 => obtain ⟨rfl, -⟩ := hd; simp at h4
    | 2, hd, h4 => obtain ⟨rfl, -⟩ := hd; simp at h4
    | 3, hd, h4 => obtain ⟨rfl, -⟩ := hd; simp at h4
    | a + 4, hd, h4 =>
      obtain ⟨-, rfl, rfl⟩ := hd
      simp at h4
      exact ⟨h4.2, rfl⟩
  · have h5 : ∀ t : Nat, ∀ x ∈ fkF t, x.1 = 0 ∨ (x.1 = 3 ∧ x.2.1 = 91) := by
      intro t
      match t with
      | 0 => decide
      | 1 => decide
      | 2 => decide
      | 3 => decide
      | 4 => decide
      | 5 => decide
      | 6 => decide
      | n + 7 => intro x hx; cases hx
    have h4 := h5 _ dd (List.mem_of_getElem? hk)
    obtain ⟨a, q', j0⟩ := dd
    rcases h4 with h4 | ⟨h4, h6⟩
    · have h4 : a = 0 := h4
      subst h4
      exact hd.elim
    · have h4 : a = 3 := h4
      have h6 : q' = 91 := h6
      subst h4 h6
      exact absurd hd.1 h3
  · have h4 := List.all_eq_true.mp h2 r' (List.mem_range.mpr (by rcases hr with hr | hr; exact hlt 3 (by rw [hr]) (by decide); exact hlt 4 (by rw [hr]) (by decide)))
    rcases hr with hr | hr <;> rw [hr] at h4 <;> simp at h4
  · have h4 := List.all_eq_true.mp h2 r' (List.mem_range.mpr (hlt 5 (by rw [hr]) (by decide)))
    rw [hr] at h4
    simp at h4
theorem lst_70 : lst_ 70 71 80 := ⟨rfl, rfl, rfl, sole_of (Nat.le_of_ble_eq_true rfl) rfl (by decide +kernel) (by decide +kernel), rfl, by decide, by decide, by decide, by decide +kernel, by decide +kernel, rfl, only_of (by decide +kernel) (by decide +kernel) (by decide)⟩
theorem eq_80 : eq_ 80 := ⟨5, 0, 6, 95, RX16, TX16, rfl, rfl, rfl⟩
theorem lst_72 : lst_ 72 73 83 := ⟨rfl, rfl, rfl, sole_of (Nat.le_of_ble_eq_true rfl) rfl (by decide +kernel) (by decide +kernel), rfl, by decide, by decide, by decide, by decide +kernel, by decide +kernel, rfl, only_of (by decide +kernel) (by decide +kernel) (by decide)⟩
theorem eq_83 : eq_ 83 := ⟨6, 0, 4, 97, RX17, TX17, rfl, rfl, rfl⟩
theorem lst_74 : lst_ 74 75 85 := ⟨rfl, rfl, rfl, sole_of (Nat.le_of_ble_eq_true rfl) rfl (by decide +kernel) (by decide +kernel), rfl, by decide, by decide, by decide, by decide +kernel, by decide +kernel, rfl, only_of (by decide +kernel) (by decide +kernel) (by decide)⟩
theorem eq_85 : eq_ 85 := ⟨8, 0, 3, 100, RX20, TX20, rfl, rfl, rfl⟩
theorem lst_76 : lst_ 76 77 86 := ⟨rfl, rfl, rfl, sole_of (Nat.le_of_ble_eq_true rfl) rfl (by decide +kernel) (by decide +kernel), rfl, by decide, by decide, by decide, by decide +kernel, by decide +kernel, rfl, only_of (by decide +kernel) (by decide +kernel) (by decide)⟩
theorem eq_86 : eq_ 86 := ⟨9, 0, 2, 101, RX21, TX21, rfl, rfl, rfl⟩
theorem lst_78 : lst_ 78 79 84 := ⟨rfl, rfl, rfl, sole_of (Nat.le_of_ble_eq_true rfl) rfl (by decide +kernel) (by decide +kernel), rfl, by decide, by decide, by decide, by decide +kernel, by decide +kernel, rfl, only_of (by decide +kernel) (by decide +kernel) (by decide)⟩
theorem eq_84 : eq_ 84 := ⟨7, 0, 2, 98, RX18, TX18, rfl, rfl, rfl⟩