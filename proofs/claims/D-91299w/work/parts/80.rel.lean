/-! ===== component and model side by side: the relation ===== -/
set_option maxRecDepth 100000
/-- what may have changed: arrays A, fields F, pointers P, counts N (and the long) -/
def frQ (A : Nat → Nat → Prop) (F P : Nat → Nat → Nat → Prop) (N : Nat → Prop) (σ σ' : st_T) : Prop :=
  (∀ r j, ¬ A r j → gA_ σ' r j = gA_ σ r j) ∧ (∀ r k j, ¬ F r k j → gF_ σ' r k j = gF_ σ r k j) ∧ (∀ r k j, ¬ P r k j → gP_ σ' r k j = gP_ σ r k j) ∧ ∀ r, ¬ N r → gN_ σ' r = gN_ σ r
abbrev z2_ : Nat → Nat → Prop := fun _ _ => False
abbrev z3_ : Nat → Nat → Nat → Prop := fun _ _ _ => False
abbrev z1_ : Nat → Prop := fun _ => False
section
variable {A A' : Nat → Nat → Prop} {F P F' P' : Nat → Nat → Nat → Prop} {N N' : Nat → Prop} {σ σ1 σ2 σ' : st_T}
theorem frQ.rf : frQ A F P N σ σ := ⟨fun _ _ _ => rfl, fun _ _ _ _ => rfl, fun _ _ _ _ => rfl, fun _ _ => rfl⟩
theorem frQ.tr (h : frQ A F P N σ σ1) (k : frQ A F P N σ1 σ2) : frQ A F P N σ σ2 :=
  ⟨fun r j z => (k.1 r j z).trans (h.1 r j z), fun r q j z => (k.2.1 r q j z).trans (h.2.1 r q j z), fun r q j z => (k.2.2.1 r q j z).trans (h.2.2.1 r q j z), fun r z => (k.2.2.2 r z).trans (h.2.2.2 r z)⟩
theorem frQ.mono (h : frQ A F P N σ σ') (hA : ∀ r j, A r j → A' r j) (hF : ∀ r k j, F r k j → F' r k j) (hP : ∀ r k j, P r k j → P' r k j) (hN : ∀ r, N r → N' r) : frQ A' F' P' N' σ σ' :=
  ⟨fun r j z => h.1 r j (fun q => z (hA r j q)), fun r k j z => h.2.1 r k j (fun q => z (hF r k j q)), fun r k j z => h.2.2.1 r k j (fun q => z (hP r k j q)), fun r z => h.2.2.2 r (fun q => z (hN r q))⟩
theorem frP.Q {A : Nat → Nat → Prop} {F P : Nat → Nat → Prop} {σ σ' : st_T} (h : frP A F P σ σ') : frQ A (fun r k _ => F r k) (fun r k _ => P r k) N σ σ' :=
  ⟨h.1, fun r k j z => h.2.1 r k j z, fun r k j z => h.2.2.1 r k j z, fun r _ => by rw [h.2.2.2.1]⟩
theorem frQ.sA {r i : Nat} {f : ar_T} (h : A r i) : frQ A F P N σ (sA_ σ r i f) :=
  ⟨fun r' j hr => by rw [gA_sA, if_neg (fun z => hr (by rw [z.1, z.2]; exact h))], fun _ _ _ _ => rfl, fun _ _ _ _ => rfl, fun _ _ => rfl⟩
theorem frQ.sE {r i j : Nat} {v : Int32} (h : A r i) : frQ A F P N σ (sE_ σ r i j v) := frQ.sA h
theorem frQ.sF {r k i : Nat} {v : Int32} (h : F r k i) : frQ A F P N σ (sF_ σ r k i v) :=
  ⟨fun _ _ _ => rfl, fun r' k' j hr => by rw [gF_sF, if_neg (fun z => hr (by rw [z.1, z.2.1, z.2.2]; exact h))], fun _ _ _ _ => rfl, fun _ _ => rfl⟩
theorem frQ.sP {r k i v : Nat} (h : P r k i) : frQ A F P N σ (sP_ σ r k i v) :=
  ⟨fun _ _ _ => rfl, fun _ _ _ _ => rfl, fun r' k' j hr => by rw [gP_sP, if_neg (fun z => hr (by rw [z.1, z.2.1, z.2.2]; exact h))], fun _ _ => rfl⟩
theorem frQ.sO {v : Int64} : frQ A F P N σ (sO_ σ v) := ⟨fun _ _ _ => rfl, fun _ _ _ _ => rfl, fun _ _ _ _ => rfl, fun _ _ => rfl⟩
theorem frQ.bX (h : ∀ k j, P 250 k j) : frQ A F P N σ (bX_ σ) :=
  ⟨fun _ _ _ => rfl, fun _ _ _ _ => rfl, fun r' k' j hr => gP_bX (fun z => hr (by rw [z]; exact h k' j)), fun _ _ => rfl⟩
end
/-- a list: n of them stand -/
structure LI (σ : st_T) (r d i n : Nat) : Prop where
  size : gF_ σ r 2 i = I_ n
  hn : n ≤ 200
  bare : gP_ σ r 1 i = 0 → n = 0 ∧ i ≤ gN_ σ d ∧ gP_ σ d 1 i = 0
  full : gP_ σ r 1 i ≠ 0 → i < gN_ σ d ∧ gP_ σ d 1 i = n ∧ n ≤ gP_ σ d 0 i ∧ 2 ≤ gP_ σ d 0 i ∧ gP_ σ d 0 i ≤ 300
/-- sets of families as numbers -/
def mk (p : Nat → Int32) : Nat → Nat
  | 0 => 0
  | n + 1 => mk p n + (if p n = 0 then 0 else 2 ^ n)
def bnC (σ : st_T) (i : Nat) : ar_T := fun e => if e % 2 = 0 then gA_ σ 58 i (e / 2) else gA_ σ 59 i (e / 2)
abbrev rg (x : Int32) (a b : Int) : Prop := a ≤ x.toInt ∧ x.toInt ≤ b
structure RL (σ : st_T) : Prop where
  kind : ∀ c, c < 64 → gA_ σ 51 0 c = gA_ σ 112 0 c ∧ rg (gA_ σ 112 0 c) 0 2
  fam : ∀ c, c < 64 → gA_ σ 52 0 c = gA_ σ 113 0 c ∧ rg (gA_ σ 113 0 c) 0 9
  crop : ∀ c, c < 64 → gA_ σ 53 0 c = gA_ σ 114 0 c ∧ rg (gA_ σ 114 0 c) 0 3
  stk : ∀ c, c < 64 → gA_ σ 54 0 c = gA_ σ 115 0 c ∧ rg (gA_ σ 115 0 c) 0 1000
  stk0 : ∀ c, c < 64 → gA_ σ 112 0 c ≠ 2 → gA_ σ 115 0 c = 0
  fear : ∀ c, c < 64 → gA_ σ 55 0 c = gA_ σ 116 0 c ∧ rg (gA_ σ 116 0 c) 0 1000
  fence : ∀ e, e < 128 → fnC σ 0 e = gA_ σ 117 0 e ∧ rg (gA_ σ 117 0 e) 0 100
  by_ : ∀ e, e < 128 → bnC σ 0 e = gA_ σ 118 0 e ∧ rg (gA_ σ 118 0 e) 0 1
structure RV (σ : st_T) : Prop where
  vil : ∀ f, f < 10 → gA_ σ 20 0 f = gA_ σ 119 0 f ∧ rg (gA_ σ 119 0 f) 0 1
/-- n: how many calls so far -/
structure RK (n : Nat) (σ : st_T) : Prop where
  night : gF_ σ 1 33 0 = gF_ σ 109 1 0
  nightN : rg (gF_ σ 109 1 0) 0 n
  taped : gF_ σ 1 32 0 = gF_ σ 109 10 0
  tapedN : rg (gF_ σ 109 10 0) 0 400
  tape : ∀ j, j < 400 → gA_ σ 127 0 j = gA_ σ 10 0 j &&& 255
  tapeN : ∀ j, j < 400 → rg (gA_ σ 10 0 j) (-128) 127
  fund : gF_ σ 1 35 0 = gF_ σ 109 82 0
  fundN : rg (gF_ σ 109 82 0) 0 1000000000
  debt : ∀ v, v < 2 → gA_ σ 25 0 v = gA_ σ 175 0 v
structure RW (n : Nat) (σ : st_T) : Prop where
  many : gF_ σ 1 34 0 = gF_ σ 109 50 0
  manyN : rg (gF_ σ 109 50 0) 0 10
  fam : ∀ j, j < (gF_ σ 109 50 0).toInt.toNat → gA_ σ 21 0 j = gA_ σ 163 0 j ∧ rg (gA_ σ 163 0 j) 0 9
  cell : ∀ j, j < (gF_ σ 109 50 0).toInt.toNat → gA_ σ 22 0 j = gA_ σ 164 0 j ∧ rg (gA_ σ 164 0 j) 0 63
  lastN : ∀ f, f < 10 → gA_ σ 35 0 f = 0 ∨ gA_ σ 35 0 f = 1
  last : gF_ σ 109 62 0 = I_ (mk (gA_ σ 35 0) 10)
  nts : ∀ f, f < 10 → gA_ σ 23 0 f = gA_ σ 176 0 f ∧ rg (gA_ σ 176 0 f) 0 n
structure RJ (σ : st_T) : Prop where
  joinN : ∀ f, f < 10 → gA_ σ 36 0 f = 0 ∨ gA_ σ 36 0 f = 1
  join : gF_ σ 109 73 0 = I_ (mk (gA_ σ 36 0) 10)
  away : ∀ f t, f < 10 → t < 1000 → gA_ σ 41 f t = gA_ σ 187 0 (1000 * f + t) ∧ rg (gA_ σ 187 0 (1000 * f + t)) 0 1
structure RE (σ : st_T) : Prop where
  rent : ∀ c, c < 64 → gA_ σ 26 0 c = gA_ σ 215 0 c ∧ rg (gA_ σ 215 0 c) 0 1000
  lease : ∀ c, c < 64 → gA_ σ 37 0 c = gA_ σ 214 0 c ∧ rg (gA_ σ 214 0 c) 0 1
/-- herds -/
structure RH (σ : st_T) : Prop where
  li : LI σ 70 71 0 (gN_ σ 80)
  many : gF_ σ 109 39 0 = I_ (gN_ σ 80)
  hN : gN_ σ 80 ≤ 4
  arr : gN_ σ 81 = gN_ σ 80 ∧ gN_ σ 82 = gN_ σ 80
  ptr : ∀ h, h < gN_ σ 80 → gP_ σ 71 (2 + h) 0 = h
  home : ∀ h, h < gN_ σ 80 → gF_ σ 80 0 h = gA_ σ 150 0 h ∧ rg (gA_ σ 150 0 h) 0 63
  hung : ∀ h, h < gN_ σ 80 → gF_ σ 80 1 h = gA_ σ 151 0 h ∧ rg (gA_ σ 151 0 h) 1 200
  speed : ∀ h, h < gN_ σ 80 → gF_ σ 80 2 h = gA_ σ 152 0 h ∧ rg (gA_ σ 152 0 h) 1 3
  fixes : ∀ h, h < gN_ σ 80 → gF_ σ 80 5 h = gA_ σ 197 0 h
  fixesN : ∀ h, h < 4 → rg (gA_ σ 197 0 h) 0 20
  fixes0 : ∀ h, h < 4 → gN_ σ 80 ≤ h → gA_ σ 197 0 h = 0
  hour : ∀ h j, h < gN_ σ 80 → j < (gA_ σ 197 0 h).toInt.toNat → gA_ σ 81 h j = gA_ σ 198 0 (20 * h + j) ∧ rg (gA_ σ 198 0 (20 * h + j)) 0 100000
  at_ : ∀ h j, h < gN_ σ 80 → j < (gA_ σ 197 0 h).toInt.toNat → gA_ σ 82 h j = gA_ σ 199 0 (20 * h + j) ∧ rg (gA_ σ 199 0 (20 * h + j)) 0 63
  incr : ∀ h j, h < gN_ σ 80 → j + 1 < (gA_ σ 197 0 h).toInt.toNat → (gA_ σ 198 0 (20 * h + j)).toInt < (gA_ σ 198 0 (20 * h + (j + 1))).toInt
/-- claims, their rows -/
def rwL (σ : st_T) (k : Nat) : List Nat := (List.range (gN_ σ 84)).filter (fun r => gA_ σ 193 0 r = I_ k)
structure RC (n : Nat) (σ : st_T) : Prop where
  li : LI σ 72 73 0 (gN_ σ 83)
  many : gF_ σ 109 63 0 = I_ (gN_ σ 83)
  cN : gN_ σ 83 ≤ 60
  arr : gN_ σ 78 = gN_ σ 83 ∧ gN_ σ 79 = gN_ σ 83
  ptr : ∀ k, k < gN_ σ 83 → gP_ σ 73 (2 + k) 0 = k
  fam : ∀ k, k < gN_ σ 83 → gF_ σ 83 0 k = gA_ σ 177 0 k ∧ rg (gA_ σ 177 0 k) 0 9
  night : ∀ k, k < gN_ σ 83 → gF_ σ 83 1 k = gA_ σ 178 0 k ∧ rg (gA_ σ 178 0 k) 0 n
  paid : ∀ k, k < gN_ σ 83 → gF_ σ 83 3 k = gA_ σ 179 0 k
  found : gF_ σ 1 36 0 = gF_ σ 109 64 0
  foundN : rg (gF_ σ 109 64 0) 0 100
  rows : gF_ σ 109 81 0 = I_ (gN_ σ 84)
  rowsN : (gN_ σ 84 : Int) = gN_ σ 83 + (gF_ σ 109 64 0).toInt
  told : ∀ r, r < gN_ σ 84 → gF_ σ 84 0 r = gA_ σ 194 0 r ∧ rg (gA_ σ 194 0 r) 0 n
  lost : ∀ r, r < gN_ σ 84 → gF_ σ 84 1 r = gA_ σ 195 0 r
  whose : ∀ r, r < gN_ σ 84 → ∃ k, k < gN_ σ 83 ∧ gA_ σ 193 0 r = I_ k
  rli : ∀ k, k < gN_ σ 83 → LI σ 78 79 k (rwL σ k).length ∧ 1 ≤ (rwL σ k).length
  rptr : ∀ k j, k < gN_ σ 83 → ∀ x, (rwL σ k)[j]? = some x → gP_ σ 79 (2 + j) k = x
/-- wires, winds, trips -/
structure RI (σ : st_T) : Prop where
  wli : LI σ 74 75 0 (gN_ σ 85)
  wmany : gF_ σ 109 93 0 = I_ (gN_ σ 85)
  wN : gN_ σ 85 ≤ 10
  wptr : ∀ k, k < gN_ σ 85 → gP_ σ 75 (2 + k) 0 = k
  one : ∀ k, k < gN_ σ 85 → gF_ σ 85 0 k = gA_ σ 206 0 k ∧ rg (gA_ σ 206 0 k) 0 63
  other : ∀ k, k < gN_ σ 85 → gF_ σ 85 1 k = gA_ σ 207 0 k ∧ rg (gA_ σ 207 0 k) 0 63
  weak : ∀ k, k < gN_ σ 85 → gF_ σ 85 2 k = gA_ σ 208 0 k
  winds : gF_ σ 1 37 0 = gF_ σ 109 94 0
  windsN : rg (gF_ σ 109 94 0) 0 60
  whour : ∀ j, j < (gF_ σ 109 94 0).toInt.toNat → gA_ σ 27 0 j = gA_ σ 209 0 j
  wforce : ∀ j, j < (gF_ σ 109 94 0).toInt.toNat → gA_ σ 28 0 j = gA_ σ 210 0 j
  tli : LI σ 76 77 0 (gN_ σ 86)
  tmany : gF_ σ 109 95 0 = I_ (gN_ σ 86)
  tN : gN_ σ 86 ≤ 60
  tptr : ∀ k, k < gN_ σ 86 → gP_ σ 77 (2 + k) 0 = k
  twire : ∀ k, k < gN_ σ 86 → gA_ σ 211 0 k = I_ (gP_ σ 86 0 k) ∧ gP_ σ 86 0 k < gN_ σ 85
  thour : ∀ k, k < gN_ σ 86 → gF_ σ 86 1 k = gA_ σ 212 0 k ∧ rg (gA_ σ 212 0 k) 0 100000
/-- a formula and its code; how high its stack grows -/
inductive FM (σ : st_T) : Nat → List (Int32 × Int32) → Nat → Prop
  | num (i : Nat) (h : i < gN_ σ 91) (t : gP_ σ 91 199 i = 0) : FM σ i [(0, gF_ σ 91 0 i)] 1
  | name (i : Nat) (h : i < gN_ σ 91) (t : gP_ σ 91 199 i = 1) (k : rg (gF_ σ 91 0 i) 0 4) (x : Int32) : FM σ i [(gF_ σ 91 0 i + 1, x)] 1
  | two (i : Nat) (h : i < gN_ σ 91) (t w : Nat) (ht : gP_ σ 91 199 i = t) (p : Int32) (x : Int32) (c1 c2 : List (Int32 × Int32)) (d1 d2 : Nat) (h1 : FM σ (gP_ σ 91 0 i) c1 d1) (h2 : FM σ (gP_ σ 91 1 i) c2 d2)
      (hp : (t = 2 ∧ ((p = 6 ∧ gF_ σ 91 2 i = 43) ∨ (p = 7 ∧ gF_ σ 91 2 i = 45) ∨ (p = 8 ∧ gF_ σ 91 2 i = 42) ∨ (p = 9 ∧ gF_ σ 91 2 i = 47))) ∨ (t = 3 ∧ p = 10) ∨ (t = 4 ∧ p = 11)) (hw : w = max d1 (1 + d2)) : FM σ i (c1 ++ c2 ++ [(p, x)]) w
  | cond (i a : Nat) (h : i < gN_ σ 91) (t : gP_ σ 91 199 i = 6) (ea : a = gP_ σ 91 0 i) (ha : a < gN_ σ 91) (ta : gP_ σ 91 199 a = 5) (p : Int32) (x : Int32) (c1 c2 c3 c4 : List (Int32 × Int32)) (d1 d2 d3 d4 w : Nat) (h1 : FM σ (gP_ σ 91 0 a) c1 d1) (h2 : FM σ (gP_ σ 91 1 a) c2 d2) (h3 : FM σ (gP_ σ 91 1 i) c3 d3) (h4 : FM σ (gP_ σ 91 2 i) c4 d4)
      (hp : (p = 12 ∧ gF_ σ 91 2 a = 60) ∨ (p = 13 ∧ gF_ σ 91 2 a = 62) ∨ (p = 14 ∧ gF_ σ 91 2 a = 61)) (hw : w = max (max d1 (1 + d2)) (max (2 + d3) (3 + d4))) : FM σ i (c1 ++ c2 ++ c3 ++ c4 ++ [(p, x)]) w
structure RU (σ : st_T) : Prop where
  q : rq σ < gN_ σ 87
  arr : gN_ σ 88 = gN_ σ 87 ∧ gN_ σ 90 = gN_ σ 87 ∧ gN_ σ 89 = gN_ σ 89
  step : gF_ σ 87 3 (rq σ) = gF_ σ 109 23 0 ∧ rg (gF_ σ 109 23 0) 1 50
  scare : gF_ σ 87 4 (rq σ) = gF_ σ 109 24 0 ∧ rg (gF_ σ 109 24 0) 0 500
  wear : gF_ σ 87 5 (rq σ) = gF_ σ 109 25 0 ∧ rg (gF_ σ 109 25 0) 0 100
  cap : gF_ σ 87 6 (rq σ) = gF_ σ 109 26 0 ∧ rg (gF_ σ 109 26 0) 0 999
  many : gF_ σ 87 9 (rq σ) = gF_ σ 109 16 0
  told : ∀ c, c < 4 → gA_ σ 90 (rq σ) c = gA_ σ 138 0 c ∧ rg (gA_ σ 138 0 c) 1 12
  like : ∀ c j, c < 4 → j < (gA_ σ 138 0 c).toInt.toNat → gA_ σ 89 (4 * rq σ + c) j = gA_ σ 137 0 (12 * c + j)
  likeN : ∀ c j, c < 4 → j < (gA_ σ 138 0 c).toInt.toNat → rg (gA_ σ 137 0 (12 * c + j)) 0 100
  pay : ∃ code w, FM σ (gP_ σ 87 7 (rq σ)) code w ∧ w ≤ 60 ∧ code.length ≤ 400 ∧ gF_ σ 109 22 0 = I_ code.length ∧ ∀ j x, code[j]? = some x → gA_ σ 130 0 j = x.1 ∧ (x.1 = 0 → gA_ σ 131 0 j = x.2)
/-- all; n calls so far; the book -/
structure Rel (n : Nat) (σ : st_T) : Prop where
  L : RL σ
  V : RV σ
  K : RK n σ
  W : RW n σ
  J : RJ σ
  E : RE σ
  H : RH σ
  C : RC n σ
  I : RI σ
  U : RU σ
  rd : rdy σ
  out : gN_ σ 100 = 1
  n64 : n ≤ 64
  cu : cu_ σ ≤ 2000 + 18000 * n
  su : su_ σ ≤ 30000 + 80000 * n
