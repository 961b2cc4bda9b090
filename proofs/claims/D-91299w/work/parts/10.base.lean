/-! ===== the store ===== -/
set_option maxRecDepth 100000
def lt_ {α : Type} {β : Type} (a : α) (f : α → β) : β := f a
theorem ww_let {α β : Type} {a : α} {f : α → β} {o : β} (h : lt_ a f = o) : ∃ x, x = a ∧ f x = o := ⟨a, rfl, h⟩
theorem ww_chk {α : Type} {c : Prop} {inst : Decidable c} {x : Option α} {y : α} (h : @ite (Option α) c inst x none = some y) : c ∧ x = some y := by
  by_cases hc : c
  · rw [if_pos hc] at h; exact ⟨hc, h⟩
  · rw [if_neg hc] at h; cases h
theorem ww_bnd {α β : Type} {x : Option α} {f : α → Option β} {y : β} (h : x.bind f = some y) : ∃ a, x = some a ∧ f a = some y := by
  cases x with
  | none => cases h
  | some a => exact ⟨a, rfl, h⟩
theorem ww_T {α : Type} {c : Prop} {inst : Decidable c} {x y z : α} (h : @ite α c inst x y = z) (hc : c) : x = z := by rw [if_pos hc] at h; exact h
theorem ww_F {α : Type} {c : Prop} {inst : Decidable c} {x y z : α} (h : @ite α c inst x y = z) (hc : ¬ c) : y = z := by rw [if_neg hc] at h; exact h
theorem ww_S {α : Type} {x y : α} (h : some x = some y) : y = x := (Option.some.inj h).symm
/-- fields, arrays, pointers, counts, the law's long -/
abbrev st_T : Type := (Nat → Nat → Nat → Int32) × (Nat → Nat → Nat → Int32) × (Nat → Nat → Nat → Nat) × (Nat → Nat) × Int64
def gF_ (σ : st_T) : Nat → Nat → Nat → Int32 := σ.1
def gA_ (σ : st_T) : Nat → Nat → Nat → Int32 := σ.2.1
def gP_ (σ : st_T) : Nat → Nat → Nat → Nat := σ.2.2.1
def gN_ (σ : st_T) : Nat → Nat := σ.2.2.2.1
def gO_ (σ : st_T) : Int64 := σ.2.2.2.2
def sF_ (σ : st_T) (r k i : Nat) (v : Int32) : st_T := (fun r' k' i' => if r' = r ∧ k' = k ∧ i' = i then v else σ.1 r' k' i', σ.2)
def sA_ (σ : st_T) (r i : Nat) (f : Nat → Int32) : st_T := (σ.1, fun r' i' => if r' = r ∧ i' = i then f else σ.2.1 r' i', σ.2.2)
def sE_ (σ : st_T) (r i j : Nat) (v : Int32) : st_T := sA_ σ r i (upd (gA_ σ r i) j v)
def sP_ (σ : st_T) (r k i v : Nat) : st_T := (σ.1, σ.2.1, fun r' k' i' => if r' = r ∧ k' = k ∧ i' = i then v else σ.2.2.1 r' k' i', σ.2.2.2)
def sN_ (σ : st_T) (r n : Nat) : st_T := (σ.1, σ.2.1, σ.2.2.1, fun r' => if r' = r then n else σ.2.2.2.1 r', σ.2.2.2.2)
def sO_ (σ : st_T) (v : Int64) : st_T := (σ.1, σ.2.1, σ.2.2.1, σ.2.2.2.1, v)
section
variable (σ : st_T) (r k i j r' k' i' j' n : Nat) (v : Int32) (f : Nat → Int32) (w : Int64)
theorem gF_sF : gF_ (sF_ σ r k i v) r' k' i' = if r' = r ∧ k' = k ∧ i' = i then v else gF_ σ r' k' i' := rfl
theorem gF_sA : gF_ (sA_ σ r i f) = gF_ σ := rfl
theorem gF_sE : gF_ (sE_ σ r i j v) = gF_ σ := rfl
theorem gF_sP : gF_ (sP_ σ r k i n) = gF_ σ := rfl
theorem gF_sN : gF_ (sN_ σ r n) = gF_ σ := rfl
theorem gF_sO : gF_ (sO_ σ w) = gF_ σ := rfl
theorem gA_sF : gA_ (sF_ σ r k i v) = gA_ σ := rfl
theorem gA_sA : gA_ (sA_ σ r i f) r' i' = if r' = r ∧ i' = i then f else gA_ σ r' i' := rfl
theorem gA_sE : gA_ (sE_ σ r i j v) r' i' j' = if r' = r ∧ i' = i ∧ j' = j then v else gA_ σ r' i' j' := by
  unfold sE_
  rw [gA_sA]
  by_cases h : r' = r ∧ i' = i
  · obtain ⟨rfl, rfl⟩ := h
    by_cases hj : j' = j
    · simp [upd, hj]
    · simp [upd, hj]
  · rw [if_neg h, if_neg (fun q => h ⟨q.1, q.2.1⟩)]
theorem gA_sP : gA_ (sP_ σ r k i n) = gA_ σ := rfl
theorem gA_sN : gA_ (sN_ σ r n) = gA_ σ := rfl
theorem gA_sO : gA_ (sO_ σ w) = gA_ σ := rfl
theorem gP_sF : gP_ (sF_ σ r k i v) = gP_ σ := rfl
theorem gP_sA : gP_ (sA_ σ r i f) = gP_ σ := rfl
theorem gP_sE : gP_ (sE_ σ r i j v) = gP_ σ := rfl
theorem gP_sP : gP_ (sP_ σ r k i n) r' k' i' = if r' = r ∧ k' = k ∧ i' = i then n else gP_ σ r' k' i' := rfl
theorem gP_sN : gP_ (sN_ σ r n) = gP_ σ := rfl
theorem gP_sO : gP_ (sO_ σ w) = gP_ σ := rfl
theorem gN_sF : gN_ (sF_ σ r k i v) = gN_ σ := rfl
theorem gN_sA : gN_ (sA_ σ r i f) = gN_ σ := rfl
theorem gN_sE : gN_ (sE_ σ r i j v) = gN_ σ := rfl
theorem gN_sP : gN_ (sP_ σ r k i n) = gN_ σ := rfl
theorem gN_sN : gN_ (sN_ σ r n) r' = if r' = r then n else gN_ σ r' := rfl
theorem gN_sO : gN_ (sO_ σ w) = gN_ σ := rfl
theorem gO_sF : gO_ (sF_ σ r k i v) = gO_ σ := rfl
theorem gO_sA : gO_ (sA_ σ r i f) = gO_ σ := rfl
theorem gO_sE : gO_ (sE_ σ r i j v) = gO_ σ := rfl
theorem gO_sP : gO_ (sP_ σ r k i n) = gO_ σ := rfl
theorem gO_sN : gO_ (sN_ σ r n) = gO_ σ := rfl
theorem gO_sO : gO_ (sO_ σ w) = w := rfl
end
/-! ===== the regions ===== -/
/-- kind, two numbers of it, the owner that counts it, how many to one of the owner -/
def rtab : List (Nat × Nat × Nat × Nat × Nat) := [(9, 0, 0, 3, 0), (0, 0, 0, 1, 1), (9, 0, 0, 3, 0), (9, 0, 0, 3, 0), (9, 0, 0, 3, 0), (9, 0, 0, 3, 0), (9, 0, 0, 3, 0), (9, 0, 0, 3, 0), (9, 0, 0, 3, 0), (9, 0, 0, 3, 0), (1, 1, 400, 10, 1), (9, 0, 0, 3, 0), (9, 0, 0, 3, 0), (9, 0, 0, 3, 0), (9, 0, 0, 3, 0), (9, 0, 0, 3, 0), (9, 0, 0, 3, 0), (9, 0, 0, 3, 0), (9, 0, 0, 3, 0), (9, 0, 0, 3, 0), (1, 0, 10, 20, 1), (1, 0, 10, 21, 1), (1, 0, 10, 22, 1), (1, 0, 10, 23, 1), (1, 0, 12, 24, 1), (1, 0, 2, 25, 1), (1, 0, 64, 26, 1), (1, 0, 60, 27, 1), (1, 0, 60, 28, 1), (1, 0, 5, 29, 1), (1, 0, 64, 30, 1), (1, 0, 10, 31, 1), (1, 0, 10, 32, 1), (9, 0, 0, 3, 0), (9, 0, 0, 3, 0), (1, 2, 10, 35, 1), (1, 2, 10, 36, 1), (1, 2, 64, 37, 1), (1, 2, 64, 38, 1), (1, 2, 64, 39, 1), (4, 41, 10, 40, 1), (1, 2, 1000, 40, 10), (9, 0, 0, 3, 0), (9, 0, 0, 3, 0), (9, 0, 0, 3, 0), (9, 0, 0, 3, 0), (9, 0, 0, 3, 0), (9, 0, 0, 3, 0), (9, 0, 0, 3, 0), (9, 0, 0, 3, 0), (0, 1, 0, 50, 1), (1, 0, 64, 51, 1), (1, 0, 64, 52, 1), (1, 0, 64, 53, 1), (1, 0, 64, 54, 1), (1, 0, 64, 55, 1), (1, 0, 64, 56, 1), (1, 0, 64, 57, 1), (1, 0, 64, 58, 1), (1, 0, 64, 59, 1), (0, 2, 0, 60, 1), (1, 0, 64, 61, 1), (1, 0, 64, 62, 1), (1, 2, 64, 63, 1), (9, 0, 0, 3, 0), (0, 3, 0, 65, 1), (1, 0, 64, 66, 1), (1, 0, 64, 67, 1), (9, 0, 0, 3, 0), (9, 0, 0, 3, 0), (0, 4, 0, 70, 1), (5, 80, 0, 71, 1), (0, 4, 0, 72, 1), (5, 83, 0, 73, 1), (0, 4, 0, 74, 1), (5, 85, 0, 75, 1), (0, 4, 0, 76, 1), (5, 86, 0, 77, 1), (0, 4, 0, 78, 1), (5, 84, 0, 79, 1), (0, 5, 0, 80, 1), (1, 0, 20, 81, 1), (1, 0, 20, 82, 1), (0, 6, 0, 83, 1), (0, 7, 0, 84, 1), (0, 8, 0, 85, 1), (0, 9, 0, 86, 1), (0, 10, 0, 87, 1), (3, 89, 4, 88, 1), (1, 0, 12, 88, 4), (1, 0, 4, 90, 1), (6, 0, 0, 91, 1), (0, 11, 0, 92, 1), (2, 0, 0, 93, 1), (2, 0, 0, 94, 1), (1, 0, 10, 95, 1), (1, 0, 5, 96, 1), (1, 2, 64, 97, 1), (1, 2, 64, 98, 1), (1, 0, 64, 99, 1), (7, 0, 0, 100, 1), (9, 0, 0, 3, 0), (9, 0, 0, 3, 0), (9, 0, 0, 3, 0), (9, 0, 0, 3, 0), (9, 0, 0, 3, 0), (9, 0, 0, 3, 0), (9, 0, 0, 3, 0), (9, 0, 0, 3, 0), (0, 12, 0, 109, 1), (9, 0, 0, 3, 0), (9, 0, 0, 3, 0), (1, 0, 64, 112, 1), (1, 0, 64, 113, 1), (1, 0, 64, 114, 1), (1, 0, 64, 115, 1), (1, 0, 64, 116, 1), (1, 0, 128, 117, 1), (1, 0, 128, 118, 1), (1, 0, 10, 119, 1), (9, 0, 0, 3, 0), (9, 0, 0, 3, 0), (9, 0, 0, 3, 0), (9, 0, 0, 3, 0), (9, 0, 0, 3, 0), (9, 0, 0, 3, 0), (9, 0, 0, 3, 0), (1, 0, 400, 127, 1), (1, 0, 400, 128, 1), (1, 0, 400, 129, 1), (1, 0, 400, 130, 1), (1, 0, 400, 131, 1), (9, 0, 0, 3, 0), (9, 0, 0, 3, 0), (9, 0, 0, 3, 0), (9, 0, 0, 3, 0), (9, 0, 0, 3, 0), (1, 0, 48, 137, 1), (1, 0, 4, 138, 1), (9, 0, 0, 3, 0), (9, 0, 0, 3, 0), (9, 0, 0, 3, 0), (9, 0, 0, 3, 0), (9, 0, 0, 3, 0), (9, 0, 0, 3, 0), (1, 0, 48, 145, 1), (1, 0, 4, 146, 1), (1, 0, 400, 147, 1), (1, 0, 400, 148, 1), (9, 0, 0, 3, 0), (1, 0, 4, 150, 1), (1, 0, 4, 151, 1), (1, 0, 4, 152, 1), (1, 0, 64, 153, 1), (1, 0, 128, 154, 1), (1, 0, 64, 155, 1), (1, 0, 64, 156, 1), (1, 0, 64, 157, 1), (1, 0, 64, 158, 1), (9, 0, 0, 3, 0), (9, 0, 0, 3, 0), (9, 0, 0, 3, 0), (9, 0, 0, 3, 0), (1, 0, 10, 163, 1), (1, 0, 10, 164, 1), (1, 0, 3, 165, 1), (1, 0, 10, 166, 1), (9, 0, 0, 3, 0), (9, 0, 0, 3, 0), (9, 0, 0, 3, 0), (9, 0, 0, 3, 0), (1, 0, 12, 171, 1), (9, 0, 0, 3, 0), (9, 0, 0, 3, 0), (9, 0, 0, 3, 0), (1, 0, 2, 175, 1), (1, 0, 10, 176, 1), (1, 0, 60, 177, 1), (1, 0, 60, 178, 1), (1, 0, 60, 179, 1), (9, 0, 0, 3, 0), (9, 0, 0, 3, 0), (1, 0, 3, 182, 1), (9, 0, 0, 3, 0), (9, 0, 0, 3, 0), (9, 0, 0, 3, 0), (9, 0, 0, 3, 0), (1, 2, 10000, 187, 1), (1, 0, 10, 188, 1), (1, 0, 6, 189, 1), (1, 0, 6, 190, 1), (9, 0, 0, 3, 0), (9, 0, 0, 3, 0), (1, 0, 160, 193, 1), (1, 0, 160, 194, 1), (1, 0, 160, 195, 1), (1, 0, 64, 196, 1), (1, 0, 4, 197, 1), (1, 0, 80, 198, 1), (1, 0, 80, 199, 1), (1, 0, 64, 200, 1), (1, 0, 64, 201, 1), (1, 2, 64, 202, 1), (9, 0, 0, 3, 0), (9, 0, 0, 3, 0), (9, 0, 0, 3, 0), (1, 0, 10, 206, 1), (1, 0, 10, 207, 1), (1, 0, 10, 208, 1), (1, 0, 60, 209, 1), (1, 0, 60, 210, 1), (1, 0, 60, 211, 1), (1, 0, 60, 212, 1), (1, 2, 64, 213, 1), (1, 2, 64, 214, 1), (1, 0, 64, 215, 1), (1, 0, 64, 216, 1), (9, 0, 0, 3, 0), (9, 0, 0, 3, 0), (9, 0, 0, 3, 0)]
def rt_ (r : Nat) : Nat × Nat × Nat × Nat × Nat := rtab.getD r (9, 0, 0, 3, 0)
def rK (r : Nat) : Nat × Nat × Nat := ((rt_ r).1, (rt_ r).2.1, (rt_ r).2.2.1)
def ow_ (r : Nat) : Nat := (rt_ r).2.2.2.1
def mu_ (r : Nat) : Nat := (rt_ r).2.2.2.2
def fk_ (r : Nat) : List (Nat × Nat × Nat) := match r with
  | 1 => [(1, 10, 0), (1, 50, 0), (1, 50, 1), (1, 50, 2), (1, 60, 0), (1, 65, 0), (1, 70, 0), (1, 72, 0), (1, 74, 0), (1, 76, 0), (1, 20, 0), (1, 21, 0), (1, 22, 0), (1, 23, 0), (1, 24, 0), (1, 25, 0), (1, 26, 0), (1, 27, 0), (1, 28, 0), (1, 29, 0), (1, 30, 0), (1, 31, 0), (3, 32, 0), (1, 32, 1), (1, 32, 2), (1, 35, 0), (1, 36, 0), (1, 37, 0), (1, 38, 0), (1, 39, 0), (1, 40, 0), (3, 87, 0), (0, 0, 0), (0, 0, 0), (0, 0, 0), (0, 0, 0), (0, 0, 0), (0, 0, 0), (0, 0, 0)]
  | 50 => [(2, 51, 0), (2, 52, 0), (2, 53, 0), (2, 54, 0), (2, 55, 0), (2, 56, 0), (2, 57, 0), (2, 58, 0), (2, 59, 0)]
  | 60 => [(1, 61, 0), (1, 62, 0), (1, 63, 0), (0, 0, 0)]
  | 65 => [(1, 66, 0), (1, 67, 0)]
  | 70 => [(0, 0, 0), (4, 71, 0), (0, 0, 0)]
  | 72 => [(0, 0, 0), (4, 73, 0), (0, 0, 0)]
  | 74 => [(0, 0, 0), (4, 75, 0), (0, 0, 0)]
  | 76 => [(0, 0, 0), (4, 77, 0), (0, 0, 0)]
  | 78 => [(0, 0, 0), (4, 79, 0), (0, 0, 0)]
  | 80 => [(0, 0, 0), (0, 0, 0), (0, 0, 0), (2, 81, 0), (2, 82, 0), (0, 0, 0)]
  | 83 => [(0, 0, 0), (0, 0, 0), (2, 78, 0), (0, 0, 0)]
  | 84 => [(0, 0, 0), (0, 0, 0)]
  | 85 => [(0, 0, 0), (0, 0, 0), (0, 0, 0)]
  | 86 => [(3, 85, 0), (0, 0, 0)]
  | 87 => [(0, 0, 0), (2, 88, 0), (2, 90, 0), (0, 0, 0), (0, 0, 0), (0, 0, 0), (0, 0, 0), (3, 91, 0), (0, 0, 0), (0, 0, 0), (0, 0, 0), (1, 1, 0)]
  | 92 => [(0, 0, 0), (0, 0, 0), (2, 93, 0), (2, 94, 0), (2, 95, 0), (0, 0, 0), (0, 0, 0), (0, 0, 0), (0, 0, 0), (1, 1, 0)]
  | 109 => [(0, 0, 0), (0, 0, 0), (1, 112, 0), (1, 113, 0), (1, 114, 0), (1, 115, 0), (1, 116, 0), (1, 117, 0), (1, 118, 0), (1, 119, 0), (0, 0, 0), (0, 0, 0), (0, 0, 0), (0, 0, 0), (0, 0, 0), (0, 0, 0), (0, 0, 0), (1, 127, 0), (1, 128, 0), (1, 129, 0), (1, 130, 0), (1, 131, 0), (0, 0, 0), (0, 0, 0), (0, 0, 0), (0, 0, 0), (0, 0, 0), (1, 137, 0), (1, 138, 0), (0, 0, 0), (0, 0, 0), (0, 0, 0), (0, 0, 0), (0, 0, 0), (0, 0, 0), (1, 145, 0), (1, 146, 0), (1, 147, 0), (1, 148, 0), (0, 0, 0), (1, 150, 0), (1, 151, 0), (1, 152, 0), (1, 153, 0), (1, 154, 0), (1, 155, 0), (1, 156, 0), (1, 157, 0), (1, 158, 0), (0, 0, 0), (0, 0, 0), (0, 0, 0), (0, 0, 0), (1, 163, 0), (1, 164, 0), (1, 165, 0), (1, 166, 0), (0, 0, 0), (0, 0, 0), (0, 0, 0), (0, 0, 0), (1, 171, 0), (0, 0, 0), (0, 0, 0), (0, 0, 0), (1, 175, 0), (1, 176, 0), (1, 177, 0), (1, 178, 0), (1, 179, 0), (0, 0, 0), (0, 0, 0), (1, 182, 0), (0, 0, 0), (0, 0, 0), (0, 0, 0), (0, 0, 0), (1, 187, 0), (1, 188, 0), (1, 189, 0), (1, 190, 0), (0, 0, 0), (0, 0, 0), (1, 193, 0), (1, 194, 0), (1, 195, 0), (1, 196, 0), (1, 197, 0), (1, 198, 0), (1, 199, 0), (1, 200, 0), (1, 201, 0), (1, 202, 0), (0, 0, 0), (0, 0, 0), (0, 0, 0), (1, 206, 0), (1, 207, 0), (1, 208, 0), (1, 209, 0), (1, 210, 0), (1, 211, 0), (1, 212, 0), (1, 213, 0), (1, 214, 0), (1, 215, 0), (1, 216, 0)]
  | _ => []
def fkF (t : Nat) : List (Nat × Nat × Nat) := match t with
  | 0 => [(0, 0, 0)]
  | 1 => [(0, 0, 0)]
  | 2 => [(3, 91, 0), (3, 91, 0), (0, 0, 0)]
  | 3 => [(3, 91, 0), (3, 91, 0)]
  | 4 => [(3, 91, 0), (3, 91, 0)]
  | 5 => [(3, 91, 0), (3, 91, 0), (0, 0, 0)]
  | 6 => [(3, 91, 0), (3, 91, 0), (3, 91, 0)]
  | _ => []
/-- how many a static owner counts -/
def soT : List Nat := [0, 1, 0, 0, 0, 0, 0, 0, 0, 0, 1, 0, 0, 0, 0, 0, 0, 0, 0, 0, 1, 1, 1, 1, 1, 1, 1, 1, 1, 1, 1, 1, 3, 0, 0, 1, 1, 1, 1, 1, 1, 0, 0, 0, 0, 0, 0, 0, 0, 0, 3, 3, 3, 3, 3, 3, 3, 3, 3, 3, 1, 1, 1, 1, 0, 1, 1, 1, 0, 0, 1, 0, 1, 0, 1, 0, 1, 0, 0, 0, 0, 0, 0, 0, 0, 0, 0, 0, 0, 0, 0, 0, 0, 0, 0, 0, 0, 0, 0, 0, 0, 0, 0, 0, 0, 0, 0, 0, 0, 1, 0, 0, 1, 1, 1, 1, 1, 1, 1, 1, 0, 0, 0, 0, 0, 0, 0, 1, 1, 1, 1, 1, 0, 0, 0, 0, 0, 1, 1, 0, 0, 0, 0, 0, 0, 1, 1, 1, 1, 0, 1, 1, 1, 1, 1, 1, 1, 1, 1, 0, 0, 0, 0, 1, 1, 1, 1, 0, 0, 0, 0, 1, 0, 0, 0, 1, 1, 1, 1, 1, 0, 0, 1, 0, 0, 0, 0, 1, 1, 1, 1, 0, 0, 1, 1, 1, 1, 1, 1, 1, 1, 1, 1, 0, 0, 0, 1, 1, 1, 1, 1, 1, 1, 1, 1, 1, 1, 0, 0, 0]
def so_ (o : Nat) : Nat := soT.getD o 0
def fcl (t : Nat) : Nat := 13 + t
def wcl : List vw_C := [(RX1, TX1, 39), (RX2, TX2, 9), (RX3, TX3, 4), (RX4, TX4, 2), (RJ2, TJ2, 3), (RX16, TX16, 6), (RX17, TX17, 4), (RX18, TX18, 2), (RX20, TX20, 3), (RX21, TX21, 2), (RX5, TX5, 12), (RX19, TX19, 10), (RX10, TX10, 107), (RX9, TX9, 1), (RX8, TX8, 1), (RX7, TX7, 3), (RX14, TX14, 2), (RX15, TX15, 2), (RX12, TX12, 3), (RX13, TX13, 3)]
/-- the launch's own numbers: classes and slots; the array classes; the empty list's array; where the world begins; the strings and their bytes -/
abbrev wg_T : Type := va_G × (Nat → ClassId) × Nat × Nat × (Nat → Nat) × (Nat → Nat) × Bool
abbrev gD (g : wg_T) : va_G := g.1
abbrev gC (g : wg_T) : Nat → ClassId := g.2.1
abbrev ge (g : wg_T) : Nat := g.2.2.1
abbrev gz (g : wg_T) : Nat := g.2.2.2.1
abbrev gk (g : wg_T) : Nat → Nat := g.2.2.2.2.1
abbrev gv (g : wg_T) : Nat → Nat := g.2.2.2.2.2.1
/-- is the world ready (or is something still being made) -/
abbrev gm (g : wg_T) : Bool := g.2.2.2.2.2.2
def rw_ (g : wg_T) : wg_T := (g.1, g.2.1, g.2.2.1, g.2.2.2.1, g.2.2.2.2.1, g.2.2.2.2.2.1, false)
def ry_ (g : wg_T) : wg_T := (g.1, g.2.1, g.2.2.1, g.2.2.2.1, g.2.2.2.2.1, g.2.2.2.2.2.1, true)
abbrev ly_T : Type := Nat → Nat → Nat
/-- a field's value by its kind -/
def fp (g : wg_T) (L : ly_T) (σ : st_T) (r i k : Nat) (d : Nat × Nat × Nat) : Nat := match d with
  | (0, _, _) => 0
  | (1, q, j) => L q j
  | (2, q, _) => L q i
  | (3, q, _) => L q (gP_ σ r k i)
  | (_, q, _) => if gP_ σ r k i = 0 then ge g else L q i
/-- a reference is null until its mark (place 200 + k) is set -/
def fv (g : wg_T) (L : ly_T) (σ : st_T) (r i k : Nat) (d : Nat × Nat × Nat) : Value := if d.1 = 0 then .int (gF_ σ r k i) else if gP_ σ r (200 + k) i = 0 then .null else .ref (fp g L σ r i k d)
def fvl (g : wg_T) (L : ly_T) (σ : st_T) (fk : List (Nat × Nat × Nat)) (r i : Nat) : List Value := fk.mapIdx (fun k d => fv g L σ r i k d)
/-- a region's cell -/
def wE (g : wg_T) (L : ly_T) (σ : st_T) (r i : Nat) : va_E := match rK r with
  | (0, ci, _) => .inr (ci, fvl g L σ (fk_ r) r i)
  | (1, ty, n) => .inl (gC g ty, n, .inl (gA_ σ r i))
  | (2, ty, _) => .inl (gC g ty, gP_ σ r 0 i, .inl (gA_ σ r i))
  | (3, q, n) => .inl (gC g 4, n, .inr (.inr (.inr (.inr fun j => if j < n then some (L q (n * i + j)) else none))))
  | (4, q, n) => .inl (gC g 5, n, .inr (.inr (.inr (.inr fun j => if j < n then some (L q (n * i + j)) else none))))
  | (5, q, _) => .inl (gC g 6, gP_ σ r 0 i, .inr (.inr (.inr (.inr fun j => if j < gP_ σ r 1 i then some (L q (gP_ σ r (2 + j) i)) else none))))
  | (6, _, _) => .inr (fcl (gP_ σ r 199 i), fvl g L σ (fkF (gP_ σ r 199 i)) r i)
  | (_, _, _) => .inl (gC g 3, 1, .inr (.inl fun _ => gO_ σ))
def pr (σ : st_T) (r i : Nat) : Prop := i < mu_ r * gN_ σ (ow_ r)
/-- what an object region's cell is read by: class and fields -/
def obv (σ : st_T) (r i ci : Nat) (fk : List (Nat × Nat × Nat)) : Prop := (∃ b, rK r = (0, ci, b) ∧ fk = fk_ r) ∨ (∃ a b, rK r = (6, a, b) ∧ ci = fcl (gP_ σ r 199 i) ∧ fk = fkF (gP_ σ r 199 i))
def tgd (σ : st_T) (r i k : Nat) (d : Nat × Nat × Nat) (q j : Nat) : Prop := match d with
  | (0, _, _) => False
  | (1, q', j') => q = q' ∧ j = j'
  | (2, q', _) => q = q' ∧ j = i
  | (3, q', _) => q = q' ∧ j = gP_ σ r k i
  | (_, q', _) => gP_ σ r k i ≠ 0 ∧ q = q' ∧ j = i
/-- (q, j) stands in the cell (r, i) -/
def tg (σ : st_T) (r i q j : Nat) : Prop :=
  (∃ ci fk k d, obv σ r i ci fk ∧ fk[k]? = some d ∧ gP_ σ r (200 + k) i ≠ 0 ∧ tgd σ r i k d q j) ∨
  (∃ t n c, (rK r = (3, q, n) ∨ rK r = (4, q, n)) ∧ t = c ∧ c < n ∧ j = n * i + c) ∨
  (∃ n c, rK r = (5, q, n) ∧ c < gP_ σ r 1 i ∧ j = gP_ σ r (2 + c) i)
def vq (σ : st_T) : Prop := ∀ r i : Nat, pr σ r i → ∀ q j, tg σ r i q j → pr σ q j
def rdy (σ : st_T) : Prop := (∀ o : Nat, so_ o ≠ 0 → gN_ σ o = so_ o) ∧ ∀ (r i k : Nat) (d : Nat × Nat × Nat), r ≠ 91 → pr σ r i → (fk_ r)[k]? = some d → d.1 ≠ 0 → gP_ σ r (200 + k) i ≠ 0
def rp (g : wg_T) (L : ly_T) (σ : st_T) (H : Heap) : Prop :=
  (∀ r i : Nat, pr σ r i → va_at (gD g) wcl (L r i, wE g L σ r i) H ∧ gz g ≤ L r i) ∧
  (∀ r i r' i' : Nat, pr σ r i → pr σ r' i' → L r i = L r' i' → r = r' ∧ i = i') ∧ vq σ ∧ (gm g = true → rdy σ)
def wty (g : wg_T) : List (ClassId × FieldType) := [(gC g 0, .int), (gC g 1, .byte), (gC g 2, .boolean), (gC g 3, .long), (gC g 4, .array .int), (gC g 5, .array .boolean), (gC g 6, .object "java/lang/Object")]
def kown : List String := ["ElephantEdge", "ElephantEdge", "ElephantEdge", "ElephantEdge", "ElephantEdge", "ElephantEdge", "ElephantEdge", "ElephantEdge", "ElephantEdge", "ElephantEdge$Rule", "ElephantEdge$Rule", "ElephantEdge$Rule", "ElephantEdge$Rule", "ElephantEdge$Rule", "ElephantEdge$Rule", "ElephantEdge$Rule", "ElephantEdge$Rule", "ElephantEdge$Rule"]
def kidx : List Nat := [1, 3, 5, 7, 9, 11, 13, 15, 17, 80, 88, 92, 93, 94, 95, 120, 122, 124]
def ktxt : List String := ["maize", "millet", "beans", "melon", "lost", "judged", "month", "fund", "late", "like", "step", "scare", "wear", "cap", "pay", "least", "most", "if"]
def klen : List Nat := [5, 6, 5, 5, 4, 6, 5, 4, 4, 4, 4, 5, 4, 3, 3, 5, 4, 2]
def kbyt : List (List Int32) := [[109, 97, 105, 122, 101], [109, 105, 108, 108, 101, 116], [98, 101, 97, 110, 115], [109, 101, 108, 111, 110], [108, 111, 115, 116], [106, 117, 100, 103, 101, 100], [109, 111, 110, 116, 104], [102, 117, 110, 100], [108, 97, 116, 101], [108, 105, 107, 101], [115, 116, 101, 112], [115, 99, 97, 114, 101], [119, 101, 97, 114], [99, 97, 112], [112, 97, 121], [108, 101, 97, 115, 116], [109, 111, 115, 116], [105, 102]]
/-- words of the tables that do not ride in the lists -/
def xw_ : List Cond := [(Jvm.Cond.methodLinkNest "ElephantEdge" (43 : Nat) ({ cls := "ElephantEdge$Land", name := "<init>", desc := "()V" } : Jvm.MethodName) "ElephantEdge"),
  (Jvm.Cond.fieldLinkNest "ElephantEdge" (183 : Nat) "ElephantEdge$Land" "kind" "[I" "ElephantEdge"),
  (Jvm.Cond.fieldLinkNest "ElephantEdge" (222 : Nat) "ElephantEdge$Land" "family" "[I" "ElephantEdge"),
  (Jvm.Cond.fieldLinkNest "ElephantEdge" (224 : Nat) "ElephantEdge$Land" "crop" "[I" "ElephantEdge"),
  (Jvm.Cond.fieldLinkNest "ElephantEdge" (186 : Nat) "ElephantEdge$Land" "stalks" "[I" "ElephantEdge"),
  (Jvm.Cond.fieldLinkNest "ElephantEdge" (240 : Nat) "ElephantEdge$Land" "fear" "[I" "ElephantEdge"),
  (Jvm.Cond.methodLinkNest "ElephantEdge" (56 : Nat) ({ cls := "ElephantEdge$Ways", name := "<init>", desc := "()V" } : Jvm.MethodName) "ElephantEdge"),
  (Jvm.Cond.fieldLinkNest "ElephantEdge" (279 : Nat) "ElephantEdge$Ways" "cost" "[I" "ElephantEdge"),
  (Jvm.Cond.fieldLinkNest "ElephantEdge" (290 : Nat) "ElephantEdge$Ways" "way" "[I" "ElephantEdge"),
  (Jvm.Cond.fieldLinkNest "ElephantEdge" (287 : Nat) "ElephantEdge$Ways" "length" "I" "ElephantEdge"),
  (Jvm.Cond.methodLinkNest "ElephantEdge" (63 : Nat) ({ cls := "ElephantEdge$Steps", name := "<init>", desc := "()V" } : Jvm.MethodName) "ElephantEdge"),
  (Jvm.Cond.fieldLinkNest "ElephantEdge" (449 : Nat) "ElephantEdge$Steps" "far" "[I" "ElephantEdge"),
  (Jvm.Cond.fieldLinkNest "ElephantEdge" (272 : Nat) "ElephantEdge$Rule" "step" "I" "ElephantEdge"),
  (Jvm.Cond.fieldLinkNest "ElephantEdge" (299 : Nat) "ElephantEdge$Rule" "scare" "I" "ElephantEdge"),
  (Jvm.Cond.fieldLinkNest "ElephantEdge" (332 : Nat) "ElephantEdge$Rule" "wear" "I" "ElephantEdge"),
  (Jvm.Cond.fieldLinkNest "ElephantEdge" (431 : Nat) "ElephantEdge$Rule" "cap" "I" "ElephantEdge"),
  (Jvm.Cond.fieldLinkNest "ElephantEdge" (422 : Nat) "ElephantEdge$Rule" "pay" "LElephantEdge$Formula;" "ElephantEdge"),
  (Jvm.Cond.fieldLinkNest "ElephantEdge" (251 : Nat) "ElephantEdge$Rule" "at" "I" "ElephantEdge"),
  (Jvm.Cond.fieldLinkNest "ElephantEdge" (253 : Nat) "ElephantEdge$Rule" "many" "I" "ElephantEdge"),
  (Jvm.Cond.fieldLinkNest "ElephantEdge$Rule" (148 : Nat) "ElephantEdge" "tape" "[B" "ElephantEdge"),
  (Jvm.Cond.fieldLinkNest "ElephantEdge$Rota" (39 : Nat) "ElephantEdge" "watchedNights" "[I" "ElephantEdge"),
  (Jvm.Cond.fieldLinkNest "ElephantEdge$Rota" (42 : Nat) "ElephantEdge" "watchedLast" "[Z" "ElephantEdge"),
  (Jvm.Cond.fieldLinkNest "ElephantEdge$Rota" (50 : Nat) "ElephantEdge" "joins" "[Z" "ElephantEdge"),
  (Jvm.Cond.fieldLinkNest "ElephantEdge$Rota" (83 : Nat) "ElephantEdge" "night" "I" "ElephantEdge"),
  (Jvm.Cond.methodLinkNest "ElephantEdge$Land" (58 : Nat) ({ cls := "ElephantEdge", name := "next", desc := "(II)I" } : Jvm.MethodName) "ElephantEdge"),
  (Jvm.Cond.methodLinkNest "ElephantEdge$Ways" (27 : Nat) ({ cls := "ElephantEdge", name := "next", desc := "(II)I" } : Jvm.MethodName) "ElephantEdge"),
  (Jvm.Cond.fieldLinkNest "ElephantEdge$Claim" (48 : Nat) "ElephantEdge$Row" "told" "I" "ElephantEdge"),
  (Jvm.Cond.fieldLinkNest "ElephantEdge$Claim" (45 : Nat) "ElephantEdge$Row" "lost" "I" "ElephantEdge"),
  (Jvm.Cond.fieldLinkNest "ElephantEdge" (407 : Nat) "ElephantEdge$Claim" "family" "I" "ElephantEdge"),
  (Jvm.Cond.fieldLinkNest "ElephantEdge" (409 : Nat) "ElephantEdge$Claim" "night" "I" "ElephantEdge"),
  (Jvm.Cond.fieldLinkNest "ElephantEdge" (400 : Nat) "ElephantEdge$Claim" "rows" "Ljava/util/ArrayList;" "ElephantEdge"),
  (Jvm.Cond.fieldLinkNest "ElephantEdge" (416 : Nat) "ElephantEdge$Claim" "paid" "I" "ElephantEdge"),
  (Jvm.Cond.castable "java/lang/ArrayIndexOutOfBoundsException" "java/lang/ArrayIndexOutOfBoundsException"),
  (Jvm.Cond.declares ({ cls := "java/lang/IndexOutOfBoundsException", name := "<init>", desc := "()V" } : Jvm.MethodName)),
  (Jvm.Cond.declares ({ cls := "java/lang/IndexOutOfBoundsException", name := "<init>", desc := "(Ljava/lang/String;)V" } : Jvm.MethodName)),
  (Jvm.Cond.declares ({ cls := "java/lang/RuntimeException", name := "<init>", desc := "()V" } : Jvm.MethodName)),
  (Jvm.Cond.declares ({ cls := "java/lang/RuntimeException", name := "<init>", desc := "(Ljava/lang/String;)V" } : Jvm.MethodName)),
  (Jvm.Cond.declares ({ cls := "java/lang/Exception", name := "<init>", desc := "()V" } : Jvm.MethodName)),
  (Jvm.Cond.declares ({ cls := "java/lang/Exception", name := "<init>", desc := "(Ljava/lang/String;)V" } : Jvm.MethodName)),
  (Jvm.Cond.declares ({ cls := "java/lang/Throwable", name := "<init>", desc := "()V" } : Jvm.MethodName)),
  (Jvm.Cond.declares ({ cls := "java/lang/Throwable", name := "<init>", desc := "(Ljava/lang/String;)V" } : Jvm.MethodName)),
  (Jvm.Cond.castable "java/lang/IndexOutOfBoundsException" "java/lang/IndexOutOfBoundsException"),
  (Jvm.Cond.castable "java/lang/IllegalArgumentException" "java/lang/IllegalArgumentException"),
  (Jvm.Cond.castable "java/lang/IllegalStateException" "java/lang/IllegalStateException"),
  (Jvm.Cond.castable "ElephantEdge$Wrong" "ElephantEdge$Wrong"),
  (Jvm.Cond.methodLinkNest "ElephantEdge$Rule" (154 : Nat) ({ cls := "ElephantEdge$Wrong", name := "<init>", desc := "()V" } : Jvm.MethodName) "ElephantEdge"),
  (Jvm.Cond.methodLinkNest "ElephantEdge$Rule" (100 : Nat) ({ cls := "ElephantEdge", name := "cropName", desc := "(I)Ljava/lang/String;" } : Jvm.MethodName) "ElephantEdge"),
  (Jvm.Cond.methodLinkNest "ElephantEdge$Rule" (104 : Nat) ({ cls := "ElephantEdge", name := "isDigit", desc := "(I)Z" } : Jvm.MethodName) "ElephantEdge"),
  (Jvm.Cond.methodLinkNest "ElephantEdge$Rule" (117 : Nat) ({ cls := "ElephantEdge", name := "toldName", desc := "(I)Ljava/lang/String;" } : Jvm.MethodName) "ElephantEdge"),
  (Jvm.Cond.fieldLinkNest "ElephantEdge" (199 : Nat) "ElephantEdge$Herd" "home" "I" "ElephantEdge"),
  (Jvm.Cond.fieldLinkNest "ElephantEdge" (308 : Nat) "ElephantEdge$Herd" "hunger" "I" "ElephantEdge"),
  (Jvm.Cond.fieldLinkNest "ElephantEdge" (437 : Nat) "ElephantEdge$Herd" "speed" "I" "ElephantEdge"),
  (Jvm.Cond.fieldLinkNest "ElephantEdge" (434 : Nat) "ElephantEdge$Herd" "hours" "[I" "ElephantEdge"),
  (Jvm.Cond.fieldLinkNest "ElephantEdge" (206 : Nat) "ElephantEdge$Herd" "at" "[I" "ElephantEdge"),
  (Jvm.Cond.fieldLinkNest "ElephantEdge" (203 : Nat) "ElephantEdge$Herd" "fixes" "I" "ElephantEdge"),
  (Jvm.Cond.castable "java/util/NoSuchElementException" "java/util/NoSuchElementException"),
  (Jvm.Cond.methodLinkNest "ElephantEdge$Rota" (86 : Nat) ({ cls := "ElephantEdge", name := "isAway", desc := "(II)Z" } : Jvm.MethodName) "ElephantEdge"),
  (Jvm.Cond.fieldLinkNest "ElephantEdge" (387 : Nat) "ElephantEdge$Rota" "best" "[I" "ElephantEdge"),
  (Jvm.Cond.fieldLinkNest "ElephantEdge" (390 : Nat) "ElephantEdge$Rota" "squares" "I" "ElephantEdge"),
  (Jvm.Cond.fieldLinkNest "ElephantEdge" (383 : Nat) "ElephantEdge$Rota" "isThere" "Z" "ElephantEdge"),
  (Jvm.Cond.declares ({ cls := "ElephantEdge$Formula", name := "value", desc := "([I)I" } : Jvm.MethodName)),
  (Jvm.Cond.castable "ElephantEdge$Held" "ElephantEdge$Formula"),
  (Jvm.Cond.castable "ElephantEdge$If" "ElephantEdge$Formula"),
  (Jvm.Cond.castable "ElephantEdge$Least" "ElephantEdge$Formula"),
  (Jvm.Cond.castable "ElephantEdge$Most" "ElephantEdge$Formula"),
  (Jvm.Cond.castable "ElephantEdge$Name" "ElephantEdge$Formula"),
  (Jvm.Cond.castable "ElephantEdge$Number" "ElephantEdge$Formula"),
  (Jvm.Cond.castable "ElephantEdge$Sum" "ElephantEdge$Formula"),
  (Jvm.Cond.declares ({ cls := "ElephantEdge$Two", name := "of", desc := "(II)I" } : Jvm.MethodName)),
  (Jvm.Cond.methodLinkNest "ElephantEdge$Steps" (19 : Nat) ({ cls := "ElephantEdge", name := "next", desc := "(II)I" } : Jvm.MethodName) "ElephantEdge"),
  (Jvm.Cond.fieldLinkNest "ElephantEdge" (483 : Nat) "ElephantEdge$Wire" "one" "I" "ElephantEdge"),
  (Jvm.Cond.fieldLinkNest "ElephantEdge" (486 : Nat) "ElephantEdge$Wire" "other" "I" "ElephantEdge"),
  (Jvm.Cond.fieldLinkNest "ElephantEdge" (488 : Nat) "ElephantEdge$Wire" "weak" "I" "ElephantEdge"),
  (Jvm.Cond.fieldLinkNest "ElephantEdge" (479 : Nat) "ElephantEdge$Trip" "wire" "LElephantEdge$Wire;" "ElephantEdge"),
  (Jvm.Cond.fieldLinkNest "ElephantEdge" (477 : Nat) "ElephantEdge$Trip" "hour" "I" "ElephantEdge"),
  (Jvm.Cond.castable "java/lang/ArrayIndexOutOfBoundsException" "java/lang/IndexOutOfBoundsException"),
  (Jvm.Cond.castable "ElephantEdge" "java/lang/Object"),
  (Jvm.Cond.castable "ElephantEdge$Land" "java/lang/Object"),
  (Jvm.Cond.castable "ElephantEdge$Ways" "java/lang/Object"),
  (Jvm.Cond.castable "ElephantEdge$Steps" "java/lang/Object"),
  (Jvm.Cond.castable "java/util/ArrayList" "java/lang/Object"),
  (Jvm.Cond.castable "ElephantEdge$Rule" "java/lang/Object"),
  (Jvm.Cond.castable "ElephantEdge$Sum" "java/lang/Object"),
  (Jvm.Cond.castable "ElephantEdge$Name" "java/lang/Object"),
  (Jvm.Cond.castable "ElephantEdge$Number" "java/lang/Object"),
  (Jvm.Cond.castable "ElephantEdgeModel" "java/lang/Object"),
  (Jvm.Cond.castable "java/lang/ArrayIndexOutOfBoundsException" "java/lang/Object"),
  (Jvm.Cond.castable "java/lang/IndexOutOfBoundsException" "java/lang/Object"),
  (Jvm.Cond.castable "java/lang/IllegalArgumentException" "java/lang/Object"),
  (Jvm.Cond.castable "java/lang/IllegalStateException" "java/lang/Object"),
  (Jvm.Cond.castable "ElephantEdge$Wrong" "java/lang/Object"),
  (Jvm.Cond.castable "ElephantEdge$Held" "java/lang/Object"),
  (Jvm.Cond.castable "ElephantEdge$If" "java/lang/Object"),
  (Jvm.Cond.castable "ElephantEdge$Least" "java/lang/Object"),
  (Jvm.Cond.castable "ElephantEdge$Most" "java/lang/Object"),
  (Jvm.Cond.castable "ElephantEdge$Herd" "java/lang/Object"),
  (Jvm.Cond.castable "java/util/NoSuchElementException" "java/lang/Object"),
  (Jvm.Cond.castable "ElephantEdge$Claim" "java/lang/Object"),
  (Jvm.Cond.castable "ElephantEdge$Row" "java/lang/Object"),
  (Jvm.Cond.castable "ElephantEdge$Rota" "java/lang/Object"),
  (Jvm.Cond.castable "ElephantEdge$Wire" "java/lang/Object"),
  (Jvm.Cond.castable "ElephantEdge$Trip" "java/lang/Object"),
  (Jvm.Cond.castable "java/lang/Throwable" "java/lang/Object"),
  (Jvm.Cond.castable "java/lang/String" "java/lang/Object"),
  (Jvm.Cond.declares ({ cls := "java/lang/Object", name := "getClass", desc := "()Ljava/lang/Class;" } : Jvm.MethodName)),
  (Jvm.Cond.castable "[B" "java/lang/Object"),
  (Jvm.Cond.castable "[I" "java/lang/Object"),
  (Jvm.Cond.castable "[Z" "java/lang/Object"),
  (Jvm.Cond.castable "[[Z" "java/lang/Object"),
  (Jvm.Cond.castable "[[I" "java/lang/Object"),
  (Jvm.Cond.castable "[Ljava/lang/Object;" "java/lang/Object"),
  (Jvm.Cond.castable "[J" "java/lang/Object")]
def fmC (i : Nat) : String := [RX9, RX8, RX7, RX14, RX15, RX12, RX13].getD i ""
def fmX : MethodName := ⟨"ElephantEdge$Formula", "value", "([I)I"⟩
def fmY (i : Nat) : MethodName := ⟨[RX9, RX8, RX6, RX6, RX6, RX6, RX13].getD i "", "value", "([I)I"⟩
def exN (k : Nat) : String := match k with
  | 0 => "java/lang/IndexOutOfBoundsException"
  | 1 => "java/lang/IllegalArgumentException"
  | 2 => "java/lang/IllegalStateException"
  | 3 => "java/util/NoSuchElementException"
  | _ => "ElephantEdge$Wrong"
/-- what stays all through the run: classes, words, strings, statics -/
def gs (g : wg_T) (U : State) (H : Heap) : Prop :=
  va_K (gD g) wcl (wty g) U ∧ (∀ w ∈ xw_, va_Nw w U) ∧
  vk_S 18 klen kbyt (gk g) (gv g) (fun q => gz g ≤ q) U H ∧
  (∀ i : Nat, i < 18 → vk_R (kown.getD i "") (kidx.getD i 0) (ktxt.getD i "") (gk g i) U) ∧
  va_Z "java/util/ArrayList" "DEFAULTCAPACITY_EMPTY_ELEMENTDATA" "[Ljava/lang/Object;" (.ref (ge g)) (fun q => gz g ≤ q) U H ∧
  (∃ cell : Cell, H[ge g]? = some cell ∧ cell.vm.isStatics = false ∧ cell.cls = gC g 6 ∧ cell.slots.size.toInt32 = 0 ∧ ¬ gz g ≤ ge g) ∧
  va_Z "java/lang/String" "COMPACT_STRINGS" "Z" (.int 1) (fun q => gz g ≤ q) U H ∧
  va_Zq "jdk/internal/util/Preconditions" "SIOOBE_FORMATTER" "Ljava/util/function/BiFunction;" (fun q => gz g ≤ q) U H ∧
  vx_Zq Bundle.tN "UNASSIGNED_STACK" Bundle.steD (fun q => gz g ≤ q) U H ∧ vx_Zq Bundle.tN "SUPPRESSED_SENTINEL" Bundle.listD (fun q => gz g ≤ q) U H ∧
  va_AO "java/lang/Object" U ∧ (Cond.arrayOver (.array .int)).before #[] U = true ∧ (∀ i : Nat, i < 7 → va_Fw (fmC i) fmX (fmY i) U) ∧
  (Cond.arrayOver (.array .boolean)).before #[] U = true ∧ (∃ mi : Nat, va_Mi "[Ljava/lang/Object;" mi U) ∧
  (∀ i j : Nat, i < 5 → j < 5 → i ≠ j → va_Nc (exN i) (exN j) U)
/-- the world in a method: what stays, the regions, what was written, the static counts -/
def wv (g : wg_T) (L : ly_T) (σ : st_T) (s : State) (H : Heap) (locs : List Loc) : Prop :=
  gs g s s.heap ∧ rp g L σ H ∧ va_S (fun q => gz g ≤ q) s.heap H locs ∧ gz g ≤ s.heap.size
def wd (g : wg_T) (L : ly_T) (σ : st_T) (U : State) : Prop := gs g U U.heap ∧ rp g L σ U.heap ∧ gz g ≤ U.heap.size

theorem fvl_at {g : wg_T} {L : ly_T} {σ : st_T} {fk : List (Nat × Nat × Nat)} {r i k : Nat} {d : Nat × Nat × Nat} (h : fk[k]? = some d) : (fvl g L σ fk r i)[k]? = some (fv g L σ r i k d) := by
  unfold fvl
  rw [List.getElem?_mapIdx, h]
  rfl
theorem fp_ext {g : wg_T} {L : ly_T} {σ σ' : st_T} {r i k : Nat} (d : Nat × Nat × Nat) (hP : gP_ σ' r k i = gP_ σ r k i) : fp g L σ' r i k d = fp g L σ r i k d := by
  unfold fp
  rw [hP]
theorem fv_ext {g : wg_T} {L : ly_T} {σ σ' : st_T} {r i k : Nat} (d : Nat × Nat × Nat) (hF : gF_ σ' r k i = gF_ σ r k i) (hP : ∀ n, n = k ∨ n = 200 + k → gP_ σ' r n i = gP_ σ r n i) : fv g L σ' r i k d = fv g L σ r i k d := by
  unfold fv
  rw [hF, hP (200 + k) (Or.inr rfl), fp_ext d (hP k (Or.inl rfl))]
theorem fvl_ext {g : wg_T} {L : ly_T} {σ σ' : st_T} {fk : List (Nat × Nat × Nat)} {r i : Nat} (hF : ∀ k, gF_ σ' r k i = gF_ σ r k i) (hP : ∀ k, gP_ σ' r k i = gP_ σ r k i) : fvl g L σ' fk r i = fvl g L σ fk r i := by
  unfold fvl
  congr 1
  funext k d
  exact fv_ext d (hF k) (fun n _ => hP n)
theorem wE_ext {g : wg_T} {L : ly_T} {σ σ' : st_T} {r i : Nat} (hF : ∀ k, gF_ σ' r k i = gF_ σ r k i) (hA : gA_ σ' r i = gA_ σ r i) (hP : ∀ k, gP_ σ' r k i = gP_ σ r k i) (hO : gO_ σ' = gO_ σ) : wE g L σ' r i = wE g L σ r i := by
  unfold wE
  simp only [fvl_ext (g := g) (L := L) hF hP, hA, hP, hO]
theorem wE_ob {g : wg_T} {L : ly_T} {σ : st_T} {r i ci : Nat} {fk : List (Nat × Nat × Nat)} (h : obv σ r i ci fk) : wE g L σ r i = .inr (ci, fvl g L σ fk r i) := by
  rcases h with ⟨b, h, rfl⟩ | ⟨a, b, h, rfl, rfl⟩
  · unfold wE; rw [h]; rfl
  · unfold wE; rw [h]; rfl
theorem obv_0 {σ : st_T} {r i ci b : Nat} (h : rK r = (0, ci, b)) : obv σ r i ci (fk_ r) := Or.inl ⟨b, h, rfl⟩
theorem obv_6 {σ : st_T} {r i a b t : Nat} (h : rK r = (6, a, b)) (ht : gP_ σ r 199 i = t) : obv σ r i (fcl t) (fkF t) := Or.inr ⟨a, b, h, by rw [ht], by rw [ht]⟩
theorem obv_fn {σ : st_T} {r i ci ci' : Nat} {fk fk' : List (Nat × Nat × Nat)} (h : obv σ r i ci fk) (h' : obv σ r i ci' fk') : ci = ci' ∧ fk = fk' := by
  rcases h with ⟨b, h, rfl⟩ | ⟨a, b, h, rfl, rfl⟩ <;> rcases h' with ⟨b', h', rfl⟩ | ⟨a', b', h', rfl, rfl⟩ <;> rw [h] at h' <;> first | (cases h'; done) | (cases h'; exact ⟨rfl, rfl⟩) | exact ⟨rfl, rfl⟩
theorem fv_p {g : wg_T} {L : ly_T} {σ : st_T} {r i k : Nat} {d : Nat × Nat × Nat} (h0 : d.1 ≠ 0) (hf : gP_ σ r (200 + k) i ≠ 0) : fv g L σ r i k d = .ref (fp g L σ r i k d) := by
  unfold fv
  rw [if_neg h0, if_neg hf]
theorem vq_FA {σ σ' : st_T} (hP : gP_ σ' = gP_ σ) (hN : gN_ σ' = gN_ σ) (h : vq σ) : vq σ' := by
  intro r i hp q j ht
  have hp0 : pr σ r i := by unfold pr at hp ⊢; rw [← hN]; exact hp
  have k := h r i hp0 q j (by unfold tg tgd obv at ht ⊢; rw [hP] at ht; exact ht)
  unfold pr at k ⊢
  rw [hN]
  exact k
theorem rdy_FA {σ σ' : st_T} (hP : gP_ σ' = gP_ σ) (hN : gN_ σ' = gN_ σ) (h : rdy σ) : rdy σ' := by
  refine ⟨fun o ho => by rw [hN]; exact h.1 o ho, fun r i k d hr hp hk hd => ?_⟩
  have hp0 : pr σ r i := by unfold pr at hp ⊢; rw [← hN]; exact hp
  rw [hP]
  exact h.2 r i k d hr hp0 hk hd
/-- a pointer written (k < 9): its target stands -/
theorem vq_sP {σ : st_T} {r i k n ci q j : Nat} {fk : List (Nat × Nat × Nat)} (h : vq σ) (ho : obv σ r i ci fk) (hd : fk[k]? = some (3, q, j)) (hk : k < 199) (hn : pr σ q n) : vq (sP_ σ r k i n) := by
  intro r' i' hp q' j' ht
  have hp0 : pr σ r' i' := hp
  show pr σ q' j'
  have hne : ∀ k', gP_ (sP_ σ r k i n) r' (200 + k') i' = gP_ σ r' (200 + k') i' := fun k' => by rw [gP_sP, if_neg (fun z => by omega)]
  have hob : (rK r).1 = 0 ∨ (rK r).1 = 6 := by
    rcases ho with ⟨b, ho, -⟩ | ⟨a, b, ho, -, -⟩
    · exact Or.inl (by rw [ho])
    · exact Or.inr (by rw [ho])
  have ho9 : ∀ ci' fk', obv (sP_ σ r k i n) r' i' ci' fk' ↔ obv σ r' i' ci' fk' := by
    intro ci' fk'
    unfold obv
    rw [gP_sP, if_neg (fun z => by omega)]
  by_cases e : r' = r ∧ i' = i
  · obtain ⟨rfl, rfl⟩ := e
    rcases ht with ⟨ci', fk', k', d', h1, h2, h3, h4⟩ | ⟨t, n', c, h1, -, -, -⟩ | ⟨n', c, h1, -, -⟩
    · obtain ⟨-, rfl⟩ := obv_fn ((ho9 _ _).mp h1) ho
      by_cases ek : k' = k
      · subst ek
        rw [hd] at h2
        cases h2
        obtain ⟨rfl, rfl⟩ : q' = q ∧ j' = gP_ (sP_ σ r' k' i' n) r' k' i' := h4
        rw [gP_sP, if_pos ⟨rfl, rfl, rfl⟩]
        exact hn
      · refine h r' i' hp0 q' j' (Or.inl ⟨ci', fk', k', d', (ho9 _ _).mp h1, h2, by rw [← hne]; exact h3, ?_⟩)
        unfold tgd at h4 ⊢
        rw [gP_sP, if_neg (fun z => ek z.2.1)] at h4
        exact h4
    · rcases h1 with h1 | h1 <;> rw [h1] at hob <;> exact absurd hob (by show ¬ ((_ : Nat) = 0 ∨ (_ : Nat) = 6); omega)
    · rw [h1] at hob
      exact absurd hob (by show ¬ ((5 : Nat) = 0 ∨ (5 : Nat) = 6); omega)
  · have hz : ∀ k', gP_ (sP_ σ r k i n) r' k' i' = gP_ σ r' k' i' := fun k' => by rw [gP_sP, if_neg (fun z => e ⟨z.1, z.2.2⟩)]
    refine h r' i' hp0 q' j' ?_
    rcases ht with ⟨ci', fk', k', d', h1, h2, h3, h4⟩ | h1 | ⟨n', c, h1, h2, h3⟩
    · refine Or.inl ⟨ci', fk', k', d', (ho9 _ _).mp h1, h2, by rw [← hne]; exact h3, ?_⟩
      unfold tgd at h4 ⊢
      rw [hz] at h4
      exact h4
    · exact Or.inr (Or.inl h1)
    · rw [hz] at h2 h3
      exact Or.inr (Or.inr ⟨n', c, h1, h2, h3⟩)
theorem rdy_sP {σ : st_T} {r i k n : Nat} (hk : k < 200) (h : rdy σ) : rdy (sP_ σ r k i n) :=
  ⟨h.1, fun r' i' k' d hr hp hd h0 => by rw [gP_sP, if_neg (fun z => by omega)]; exact h.2 r' i' k' d hr hp hd h0⟩
theorem wE_0 {g : wg_T} {L : ly_T} {σ : st_T} {r i ci b : Nat} (h : rK r = (0, ci, b)) : wE g L σ r i = .inr (ci, fvl g L σ (fk_ r) r i) := by unfold wE; rw [h]; rfl
theorem wE_1 {g : wg_T} {L : ly_T} {σ : st_T} {r i ty n : Nat} (h : rK r = (1, ty, n)) : wE g L σ r i = .inl (gC g ty, n, .inl (gA_ σ r i)) := by unfold wE; rw [h]; rfl
theorem wE_2 {g : wg_T} {L : ly_T} {σ : st_T} {r i ty n : Nat} (h : rK r = (2, ty, n)) : wE g L σ r i = .inl (gC g ty, gP_ σ r 0 i, .inl (gA_ σ r i)) := by unfold wE; rw [h]; rfl
theorem wE_3 {g : wg_T} {L : ly_T} {σ : st_T} {r i q n : Nat} (h : rK r = (3, q, n)) : wE g L σ r i = .inl (gC g 4, n, .inr (.inr (.inr (.inr fun j => if j < n then some (L q (n * i + j)) else none)))) := by unfold wE; rw [h]; rfl
theorem wE_4 {g : wg_T} {L : ly_T} {σ : st_T} {r i q n : Nat} (h : rK r = (4, q, n)) : wE g L σ r i = .inl (gC g 5, n, .inr (.inr (.inr (.inr fun j => if j < n then some (L q (n * i + j)) else none)))) := by unfold wE; rw [h]; rfl
theorem wE_5 {g : wg_T} {L : ly_T} {σ : st_T} {r i q n : Nat} (h : rK r = (5, q, n)) : wE g L σ r i = .inl (gC g 6, gP_ σ r 0 i, .inr (.inr (.inr (.inr fun j => if j < gP_ σ r 1 i then some (L q (gP_ σ r (2 + j) i)) else none)))) := by unfold wE; rw [h]; rfl
theorem wE_6 {g : wg_T} {L : ly_T} {σ : st_T} {r i a n : Nat} (h : rK r = (6, a, n)) : wE g L σ r i = .inr (fcl (gP_ σ r 199 i), fvl g L σ (fkF (gP_ σ r 199 i)) r i) := by unfold wE; rw [h]; rfl
theorem wE_7 {g : wg_T} {L : ly_T} {σ : st_T} {r i a n : Nat} (h : rK r = (7, a, n)) : wE g L σ r i = .inl (gC g 3, 1, .inr (.inl fun _ => gO_ σ)) := by unfold wE; rw [h]; rfl
theorem pr_st {σ : st_T} {r i : Nat} (h1 : rdy σ) (hi : i < mu_ r * so_ (ow_ r)) : pr σ r i := by
  unfold pr
  rw [h1.1 _ (fun z => by rw [z, Nat.mul_zero] at hi; exact absurd hi (Nat.not_lt_zero _))]
  exact hi
theorem pr_dy {σ : st_T} {r i o : Nat} (h : i < gN_ σ o) (ho : ow_ r = o) (hm : mu_ r = 1) : pr σ r i := by
  unfold pr
  rw [ho, hm, Nat.one_mul]
  exact h
theorem pr_N {σ σ' : st_T} {r i : Nat} (hN : gN_ σ' = gN_ σ) (h : pr σ r i) : pr σ' r i := by
  unfold pr at h ⊢
  rw [hN]
  exact h
theorem rp.upd {g : wg_T} {L : ly_T} {σ σ' : st_T} {H H1 : Heap} {r i : Nat} (h : rp g L σ H) (hpr : pr σ r i) (hoq : ∀ q : Nat, q ≠ L r i → H1[q]? = H[q]?) (hnew : va_at (gD g) wcl (L r i, wE g L σ' r i) H1) (hsame : ∀ r' i' : Nat, ¬ (r' = r ∧ i' = i) → wE g L σ' r' i' = wE g L σ r' i') (hN : gN_ σ' = gN_ σ) (hv : vq σ → vq σ') (hd : rdy σ → rdy σ') : rp g L σ' H1 := by
  refine ⟨fun r' i' hp => ?_, fun r1 i1 r2 i2 h1 h2 e => h.2.1 r1 i1 r2 i2 (pr_N hN.symm h1) (pr_N hN.symm h2) e, hv h.2.2.1, fun z => hd (h.2.2.2 z)⟩
  have hp0 : pr σ r' i' := pr_N hN.symm hp
  refine ⟨?_, (h.1 r' i' hp0).2⟩
  by_cases e : r' = r ∧ i' = i
  · obtain ⟨rfl, rfl⟩ := e
    exact hnew
  · rw [hsame r' i' e]
    exact (h.1 r' i' hp0).1.kept (hoq _ (fun q => e (h.2.1 r' i' r i hp0 hpr q)))
theorem rp.kept {g : wg_T} {L : ly_T} {σ : st_T} {H H1 : Heap} (h : rp g L σ H) (hoq : ∀ r i : Nat, pr σ r i → H1[L r i]? = H[L r i]?) : rp g L σ H1 := ⟨fun r i hp => ⟨(h.1 r i hp).1.kept (hoq r i hp), (h.1 r i hp).2⟩, h.2⟩
/-- words of the tables, taken along -/
def xwok : Cond → Bool
  | .fieldLinkNest .. => true
  | .methodLinkNest .. => true
  | .castable .. => true
  | .declares .. => true
  | _ => false
theorem xw_move {w : Cond} (hw : xwok w = true) {s U : State} (hW : s.WarmedH U.vm) (h : va_Nw w s) : va_Nw w U := by
  cases w <;> first | exact va_Nw.warmF hW h | exact va_Nw.warmM hW h | exact va_Nw.warmC hW h | exact va_Nw.warmD hW h | cases hw
theorem xw_ok : xw_.all xwok = true := by decide +kernel
theorem xw_on : ∀ w : Cond, xwok w = true → w.onTables = true := by
  intro w hw
  cases w <;> first | rfl | cases hw
theorem ao_moved {t : FieldType} {u U : State} (hvm : u.vm.Alike U.vm) (h : (Cond.arrayOver (.array t)).before #[] u = true) : (Cond.arrayOver (.array t)).before #[] U = true := by
  have h0 := h
  simp only [Cond.before, Cond.holds, Cond.value, beq_iff_eq] at h ⊢
  cases hc : u.vm.findClass (FieldType.array t).toString with
  | none => simp [hc] at h
  | some comp =>
    simp only [hc, Option.bind_some, Option.bind_eq_some_iff, Option.map_eq_some_iff] at h
    obtain ⟨c, hi, k, hk, hb⟩ := h
    obtain ⟨k', hk', he⟩ := hvm.2.2 _ _ hk
    have e1 := va_idx_bare U.vm comp
    have e2 := va_idx_bare u.vm comp
    have hi2 : (U.vm.classes.findIdx? fun (x : Class) => match x.kind with | .array component _ => component == comp | _ => false) = some c := by
      refine e1.symm.trans ?_
      first | rw [hvm.bare_eq] | rw [← hvm.bare_eq]
      exact e2.trans hi
    have f1 : U.vm.findClass (FieldType.array t).toString = some comp := by rw [hvm.findClass]; exact hc
    rw [f1, Option.bind_some]
    simp only [Option.bind_eq_some_iff, Option.map_eq_some_iff]
    refine ⟨c, hi2, k', hk', ?_⟩
    rw [he, hvm.findClass]
    exact hb
theorem gs.call {g : wg_T} {s U : State} {H : Heap} {locs : List Loc} (h : gs g s s.heap) (hS : va_S (fun q => gz g ≤ q) s.heap H locs) (hU : U.heap = H) (hW : s.WarmedH U.vm) : gs g U U.heap := by
  obtain ⟨h1, h2, h3, h4, h5, h6, h7, h8, h9, h10, h11, h12, h13, h14, ⟨mi, h15⟩, h16⟩ := h
  rw [hU]
  have k := hS.2.1
  have a := hW.alike
  refine ⟨va_K.moved a h1, fun w hw => xw_move (List.all_eq_true.mp xw_ok w hw) hW (h2 w hw), vk_S.moved a (h3.kept k), fun i hi => (h4 i hi).warm hW, va_Z.moved a (h5.kept k), ?_, va_Z.moved a (h7.kept k), va_Zq.moved a (h8.kept k), vx_Zq.moved a (h9.kept k), vx_Zq.moved a (h10.kept k), va_AO.moved a h11, ao_moved a h12, fun i hi => va_Fw.moved ⟨by decide, by decide⟩ a (h13 i hi), ao_moved a h14, ⟨mi, va_Mi.moved a h15⟩, fun i j hi hj hij => va_Nc.moved a (h16 i j hi hj hij)⟩
  obtain ⟨cell, e1, e2, e3, e4, e5⟩ := h6
  exact ⟨cell, by rw [k _ (Array.getElem?_eq_some_iff.mp e1).1 e5]; exact e1, e2, e3, e4, e5⟩
theorem gs.calling {g : wg_T} {U : State} {gg : JFrame} {mk : MethodId} {a : Array Value} (h : gs g U U.heap) : gs g (U.calling gg mk a) (U.calling gg mk a).heap :=
  h.call (U := U.calling gg mk a) (va_S.rf) rfl (State.WarmedH.refl U)
theorem wd.blind {g : wg_T} {L : ly_T} {σ : st_T} {av : List Value} : FrameBlind (va_Pc av (wd g L σ)) := by
  intro a U gg mk q
  obtain ⟨q0, q1, q2, q3⟩ := q
  exact ⟨q0, gs.calling q1, q2, q3⟩
theorem wv.pre {g : wg_T} {L : ly_T} {σ : st_T} {s : State} {H : Heap} {locs : List Loc} (h : wv g L σ s H locs) {U : State} (hU : U.heap = H) (hW : s.WarmedH U.vm) : wd g L σ U := by
  obtain ⟨h1, h2, h3, h4⟩ := h
  exact ⟨h1.call h3 hU hW, by rw [hU]; exact h2, by rw [hU]; exact Nat.le_trans h4 h3.1⟩
theorem wd.start {g : wg_T} {L : ly_T} {σ : st_T} {s : State} (h : wd g L σ s) : wv g L σ s s.heap [] := ⟨h.1, h.2.1, va_S.rf, h.2.2⟩
/-- a method's end in the world: what a contract's second part says -/
def wq (g : wg_T) (L : ly_T) (σ : st_T) (H : Heap) : Prop := rp g L σ H
theorem wv.end {g : wg_T} {L : ly_T} {σ : st_T} {s t : State} {H : Heap} {locs : List Loc} (h : wv g L σ s H locs) (ht : t.heap = H) : wq g L σ t.heap := by rw [ht]; exact h.2.1
theorem wv.F {g : wg_T} {L : ly_T} {σ : st_T} {s t : State} {H : Heap} {locs : List Loc} (h : wv g L σ s H locs) (ht : t.heap = H) : va_F (fun q => gz g ≤ q) s t := h.2.2.1.F ht
theorem wv.locs {g : wg_T} {L : ly_T} {σ : st_T} {s : State} {H : Heap} {locs : List Loc} (h : wv g L σ s H locs) : ∀ q ∈ locs, gz g ≤ q.base := h.2.2.1.2.2
theorem wv.rd {g : wg_T} {L : ly_T} {σ : st_T} {s : State} {H : Heap} {locs : List Loc} (h : wv g L σ s H locs) (hgm : gm g = true) : rdy σ := h.2.1.2.2.2 hgm
theorem wv.fl {g : wg_T} {L : ly_T} {σ : st_T} {s : State} {H : Heap} {locs : List Loc} (h : wv g L σ s H locs) (hgm : gm g = true) {r i : Nat} (hpr : pr σ r i) (k : Nat) {d : Nat × Nat × Nat} (hr : r ≠ 91) (hd : (fk_ r)[k]? = some d) (h0 : d.1 ≠ 0) : gP_ σ r (200 + k) i ≠ 0 := (h.rd hgm).2 r i k d hr hpr hd h0
theorem wv.nw {g : wg_T} {L : ly_T} {σ : st_T} {s : State} {H : Heap} {locs : List Loc} (h : wv g L σ s H locs) (i : Nat) {w : Cond} (hi : xw_[i]? = some w) : va_Nw w s := h.1.2.1 w (List.mem_of_getElem? hi)
section WROWS
variable {p : Program} {l : Launch} {e : Env} {R : Room} {s : State} {m : MethodId} {args : Array Value} {below : List Frame} {meth : Method} {c : Code} {H : Heap} {locs : List Loc} {cells slots : Nat} {Q : State → Prop}
variable {cc : ByteArray} {pc : Nat} {ls : Array Slot} {rest : List Value} {g : wg_T} {L : ly_T} {σ : st_T} {own : String}
theorem ww_at (hW : wv g L σ s H locs) {r i : Nat} (hpr : pr σ r i) : va_P (gD g) wcl [(L r i, wE g L σ r i)] H := by
  intro k q hk
  have hz : k < 1 := (List.getElem?_eq_some_iff.mp hk).1
  rw [show k = 0 by omega] at hk
  cases hk
  exact (hW.2.1.1 r i hpr).1
theorem ww_get (hexec : p.tables.exec = Jvm.exec) (hb : c.code = cc) (hts : ∀ w ∈ lw_all, w.before args s = true) (hown : s.vm.findClass own = some m.cls) (hW : wv g L σ s H locs) {ref C : String} {T : u_T} {N ci index : Nat} (r i k : Nat) {fk : List (Nat × Nat × Nat)} {d : Nat × Nat × Nat} (hpr : pr σ r i) (hr : obv σ r i ci fk) (hd : fk[k]? = some d) (hin : ∀ w ∈ u_ws C T N, w ∈ lw_all) (hc : wcl[ci]? = some (C, T, N)) (hk : k < N)
    (hlink : (Cond.fieldLink own index ref (T k).2.1 (T k).2.2.1).before args s = true) (hsame : ∀ x, s.fieldFound? (T k).1 (T k).2.1 (T k).2.2.1 = some x → s.fieldFound? ref (T k).2.1 (T k).2.2.1 = some x) (hdg : decode cc pc = .ok (.getfield index, 3))
    (kk : W p l e R s m args below meth c H locs cells slots Q (F0 m (pc + 3) ls (fv g L σ r i k d :: rest))) : W p l e R s m args below meth c H locs cells slots Q (F0 m pc ls (.ref (L r i) :: rest)) := by
  have hP := ww_at hW hpr
  rw [wE_ob hr] at hP
  exact va_get hexec hb hts hin hown hW.1.1 hP 0 rfl hc k hk hlink hsame (fvl_at hd) hdg kk
theorem ww_getN (hexec : p.tables.exec = Jvm.exec) (hb : c.code = cc) (hts : ∀ w ∈ lw_all, w.before args s = true) (hown : s.vm.findClass own = some m.cls) (hW : wv g L σ s H locs) {ref C host : String} {T : u_T} {N ci index : Nat} (r i k : Nat) {fk : List (Nat × Nat × Nat)} {d : Nat × Nat × Nat} (hpr : pr σ r i) (hr : obv σ r i ci fk) (hd : fk[k]? = some d) (hin : ∀ w ∈ u_ws C T N, w ∈ lw_all) (hc : wcl[ci]? = some (C, T, N)) (hk : k < N)
    (hlink : va_Nw (Cond.fieldLinkNest own index ref (T k).2.1 (T k).2.2.1 host) s) (hsame : ∀ x, s.fieldFound? (T k).1 (T k).2.1 (T k).2.2.1 = some x → s.fieldFound? ref (T k).2.1 (T k).2.2.1 = some x) (hdg : decode cc pc = .ok (.getfield index, 3))
    (kk : W p l e R s m args below meth c H locs cells slots Q (F0 m (pc + 3) ls (fv g L σ r i k d :: rest))) : W p l e R s m args below meth c H locs cells slots Q (F0 m pc ls (.ref (L r i) :: rest)) := by
  have hP := ww_at hW hpr
  rw [wE_ob hr] at hP
  exact va_getN hexec hb hts hin hown hW.1.1 hP 0 rfl hc k hk (va_Nw.use rfl hlink) hsame (fvl_at hd) hdg kk
theorem wy_put (hexec : p.tables.exec = Jvm.exec) (hb : c.code = cc) {ref C : String} {T : u_T} {N ci index : Nat} (hts : ∀ w ∈ lw_all, w.before args s = true) (hin : ∀ w ∈ u_ws C T N, w ∈ lw_all) (ty0 : Nat → FieldType) (hty : ∀ k, k < N → parseFieldDescriptor (T k).2.2.1 = some (ty0 k)) (hnm : ∀ a, a < N → ∀ b, b < N → a ≠ b → (T a).2.1 ≠ (T b).2.1) (hown : s.vm.findClass own = some m.cls) {D : va_G} {cl : List vw_C} {tys : List (ClassId × FieldType)} (hK : va_K D cl tys s) {a : Nat} {fs : List Value} (hP : va_at D cl (a, .inr (ci, fs)) H) (hc : cl[ci]? = some (C, T, N)) (k : Nat) (hk : k < N)
    (hlink : (Cond.fieldLink own index ref (T k).2.1 (T k).2.2.1).before args s = true ∨ ∃ host, (Cond.fieldLinkNest own index ref (T k).2.1 (T k).2.2.1 host).before args s = true) (hsame : ∀ x, s.fieldFound? (T k).1 (T k).2.1 (T k).2.2.1 = some x → s.fieldFound? ref (T k).2.1 (T k).2.2.1 = some x) (hfin : (T k).2.2.2 = false) {ty : FieldType} {v : Value} (hd : parseFieldDescriptor (T k).2.2.1 = some ty) (hn : narrow ty v = v) (hfit : fits ty v = true) (hl : k < fs.length)
    (hdg : decode cc pc = .ok (.putfield index, 3)) (kk : ∀ (H1 : Heap) (j : Nat), va_at D cl (a, .inr (ci, fs.set k v)) H1 → H1.size = H.size → (∀ q : Nat, q ≠ a → H1[q]? = H[q]?) → W p l e R s m args below meth c H1 (locs ++ [⟨a, j⟩]) cells slots Q (F0 m (pc + 3) ls rest)) : W p l e R s m args below meth c H locs cells slots Q (F0 m pc ls (v :: .ref a :: rest)) := by
  have hap := va_apart (own := own) hts hin ty0 hty hnm hK hc
  obtain ⟨r, h1, cell, q1, q2, q3, q4⟩ := hP
  have hr : r = (C, T, N) := Option.some.inj (h1.symm.trans hc)
  subst hr
  obtain ⟨hS, hfc, kC, hkC, hkind⟩ := hK.1 ci _ hc
  obtain ⟨cf, kf, fi, f, hi, hsl⟩ := hS k hk
  have hlay := hts _ (hin _ (u_in_lay hk))
  unfold u_lay at hlay
  rw [if_neg (by rw [hfin]; decide)] at hlay
  have hst := (u_facts hfc hkC (u_lays hts hin hk) hi).1
  have h6 := u_store hfc hkC hkind hlay hi hd hn hfit
  rcases hlink with hlink | ⟨host, hlink⟩
  · refine W.putK hexec hb (f := f) ⟨hown, hlink, ⟨_, _, _, hsame _ hi⟩, hst⟩ (by rw [q2]; exact h6) q1 q3 (by rw [hsl]; exact k2_hasslot (q4 k hk)) rfl rfl hdg fun H' e1 e2 e3 => ?_
    rw [hsl] at e1 ⊢
    exact kk H' _ ⟨_, hc, t_OB.to (V := updV (vp_V fs) k v) ⟨_, e1, q2, q3, t_set q4 hap hk v⟩ (fun j _ => vp_updV_set hl v j)⟩ e2 e3
  · refine va_WputK hexec hb (f := f) hown hlink (hsame _ hi) hst (by rw [q2]; exact h6) q1 q3 (by rw [hsl]; exact k2_hasslot (q4 k hk)) rfl rfl hdg fun H' e1 e2 e3 => ?_
    rw [hsl] at e1 ⊢
    exact kk H' _ ⟨_, hc, t_OB.to (V := updV (vp_V fs) k v) ⟨_, e1, q2, q3, t_set q4 hap hk v⟩ (fun j _ => vp_updV_set hl v j)⟩ e2 e3
theorem wv.put (hW : wv g L σ s H locs) {σ' : st_T} {H1 : Heap} {r i j : Nat} (hpr : pr σ r i) (hnew : va_at (gD g) wcl (L r i, wE g L σ' r i) H1) (hz : H1.size = H.size) (hoq : ∀ q : Nat, q ≠ L r i → H1[q]? = H[q]?) (hsame : ∀ r' i' : Nat, ¬ (r' = r ∧ i' = i) → wE g L σ' r' i' = wE g L σ r' i') (hN : gN_ σ' = gN_ σ) (hv : vq σ → vq σ') (hd : rdy σ → rdy σ') : wv g L σ' s H1 (locs ++ [⟨L r i, j⟩]) :=
  ⟨hW.1, hW.2.1.upd hpr hoq hnew hsame hN hv hd, hW.2.2.1.put hz hoq ((hW.2.1.1 r i hpr).2), hW.2.2.2⟩
theorem fvl_set {fk : List (Nat × Nat × Nat)} {r i k q j : Nat} {v : Int32} (h : fk[k]? = some (0, q, j)) : (fvl g L σ fk r i).set k (.int v) = fvl g L (sF_ σ r k i v) fk r i := by
  apply List.ext_getElem?
  intro n
  have hk : k < fk.length := (List.getElem?_eq_some_iff.mp h).1
  by_cases hn : n = k
  · subst hn
    rw [List.getElem?_set_self (by unfold fvl; rw [List.length_mapIdx]; exact hk), fvl_at h]
    unfold fv
    rw [if_pos rfl, gF_sF, if_pos ⟨rfl, rfl, rfl⟩]
  · rw [List.getElem?_set_ne (Ne.symm hn)]
    unfold fvl
    rw [List.getElem?_mapIdx, List.getElem?_mapIdx]
    cases hf : fk[n]? with
    | none => rfl
    | some d =>
      exact congrArg some (fv_ext (g := g) (L := L) (σ := σ) (σ' := sF_ σ r k i v) (r := r) (i := i) (k := n) d (by rw [gF_sF, if_neg (fun z => hn z.2.1)]) (fun _ _ => rfl)).symm
theorem wE_sF {r k i r' i' : Nat} {v : Int32} (h : ¬ (r' = r ∧ i' = i)) : wE g L (sF_ σ r k i v) r' i' = wE g L σ r' i' := wE_ext (fun k' => by rw [gF_sF, if_neg (fun z => h ⟨z.1, z.2.2⟩)]) rfl (fun _ => rfl) rfl
theorem wE_sP {r k i n r' i' : Nat} (h : ¬ (r' = r ∧ i' = i)) : wE g L (sP_ σ r k i n) r' i' = wE g L σ r' i' := wE_ext (fun _ => rfl) rfl (fun k' => by rw [gP_sP, if_neg (fun z => h ⟨z.1, z.2.2⟩)]) rfl
theorem wE_sA {r i r' i' : Nat} {f : Nat → Int32} (h : ¬ (r' = r ∧ i' = i)) : wE g L (sA_ σ r i f) r' i' = wE g L σ r' i' := wE_ext (fun _ => rfl) (by rw [gA_sA, if_neg h]) (fun _ => rfl) rfl
/-- putfield of an int (or byte, boolean ..) -/
theorem ww_put (hexec : p.tables.exec = Jvm.exec) (hb : c.code = cc) (hts : ∀ w ∈ lw_all, w.before args s = true) (hown : s.vm.findClass own = some m.cls) (hW : wv g L σ s H locs) {ref C : String} {T : u_T} {N ci index q j : Nat} {fk : List (Nat × Nat × Nat)} {ty0 : Nat → FieldType} (r i k : Nat) (hpr : pr σ r i) (hr : obv σ r i ci fk) (hd : fk[k]? = some (0, q, j)) (hin : ∀ w ∈ u_ws C T N, w ∈ lw_all) (hty : ∀ k, k < N → parseFieldDescriptor (T k).2.2.1 = some (ty0 k)) (hnm : ∀ a, a < N → ∀ b, b < N → a ≠ b → (T a).2.1 ≠ (T b).2.1) (hc : wcl[ci]? = some (C, T, N)) (hk : k < N)
    (hlink : (Cond.fieldLink own index ref (T k).2.1 (T k).2.2.1).before args s = true ∨ ∃ host, (Cond.fieldLinkNest own index ref (T k).2.1 (T k).2.2.1 host).before args s = true) (hsame : ∀ x, s.fieldFound? (T k).1 (T k).2.1 (T k).2.2.1 = some x → s.fieldFound? ref (T k).2.1 (T k).2.2.1 = some x) (hfin : (T k).2.2.2 = false) {ty : FieldType} {v : Int32} (hde : parseFieldDescriptor (T k).2.2.1 = some ty) (hn : narrow ty (.int v) = .int v) (hfit : fits ty (.int v) = true) (hdg : decode cc pc = .ok (.putfield index, 3))
    (kk : ∀ (H1 : Heap) (locs1 : List Loc), wv g L (sF_ σ r k i v) s H1 locs1 → W p l e R s m args below meth c H1 locs1 cells slots Q (F0 m (pc + 3) ls rest)) : W p l e R s m args below meth c H locs cells slots Q (F0 m pc ls (.int v :: .ref (L r i) :: rest)) := by
  have hP := (hW.2.1.1 r i hpr).1
  rw [wE_ob hr] at hP
  refine wy_put hexec hb hts hin ty0 hty hnm hown hW.1.1 hP hc k hk hlink hsame hfin hde hn hfit (by unfold fvl; rw [List.length_mapIdx]; exact (List.getElem?_eq_some_iff.mp hd).1) hdg fun H1 j' e1 e2 e3 => ?_
  rw [fvl_set hd] at e1
  exact kk H1 _ (hW.put hpr (by rw [wE_ob (g := g) (L := L) (σ := sF_ σ r k i v) (fk := fk) (ci := ci) hr]; exact e1) e2 e3 (fun r' i' h => wE_sF h) rfl (vq_FA rfl rfl) (rdy_FA rfl rfl))
theorem fvl_setP {fk : List (Nat × Nat × Nat)} {r i k q j n : Nat} (hf0 : gP_ σ r (200 + k) i ≠ 0) (h : fk[k]? = some (3, q, j)) (hlen : fk.length ≤ 200) : (fvl g L σ fk r i).set k (.ref (L q n)) = fvl g L (sP_ σ r k i n) fk r i := by
  apply List.ext_getElem?
  intro a
  have hk : k < fk.length := (List.getElem?_eq_some_iff.mp h).1
  by_cases hn : a = k
  · subst hn
    rw [List.getElem?_set_self (by unfold fvl; rw [List.length_mapIdx]; exact hk), fvl_at h]
    rw [fv_p (fun z => by cases z) (by rw [gP_sP, if_neg (fun z => by omega)]; exact hf0)]
    show some (Value.ref (L q n)) = some (Value.ref (L q (gP_ (sP_ σ r a i n) r a i)))
    rw [gP_sP, if_pos ⟨rfl, rfl, rfl⟩]
  · rw [List.getElem?_set_ne (Ne.symm hn)]
    unfold fvl
    rw [List.getElem?_mapIdx, List.getElem?_mapIdx]
    cases hf : fk[a]? with
    | none => rfl
    | some d =>
      have ha : a < fk.length := (List.getElem?_eq_some_iff.mp hf).1
      exact congrArg some (fv_ext (g := g) (L := L) (σ := σ) (σ' := sP_ σ r k i n) (r := r) (i := i) (k := a) d rfl (fun m hm => by rw [gP_sP, if_neg (fun z => by omega)])).symm
/-- putfield of a pointer -/
theorem ww_putP (hexec : p.tables.exec = Jvm.exec) (hb : c.code = cc) (hts : ∀ w ∈ lw_all, w.before args s = true) (hown : s.vm.findClass own = some m.cls) (hW : wv g L σ s H locs) {ref C : String} {T : u_T} {N ci index q j : Nat} {fk : List (Nat × Nat × Nat)} {ty0 : Nat → FieldType} (r i k : Nat) {n : Nat} (hpr : pr σ r i) (hpn : pr σ q n) (hf0 : gP_ σ r (200 + k) i ≠ 0) (hk9 : k < 199) (hlen : fk.length ≤ 200) (hr : obv σ r i ci fk) (hd : fk[k]? = some (3, q, j)) (hin : ∀ w ∈ u_ws C T N, w ∈ lw_all) (hty : ∀ k, k < N → parseFieldDescriptor (T k).2.2.1 = some (ty0 k)) (hnm : ∀ a, a < N → ∀ b, b < N → a ≠ b → (T a).2.1 ≠ (T b).2.1) (hc : wcl[ci]? = some (C, T, N)) (hk : k < N)
    (hlink : (Cond.fieldLink own index ref (T k).2.1 (T k).2.2.1).before args s = true ∨ ∃ host, (Cond.fieldLinkNest own index ref (T k).2.1 (T k).2.2.1 host).before args s = true) (hsame : ∀ x, s.fieldFound? (T k).1 (T k).2.1 (T k).2.2.1 = some x → s.fieldFound? ref (T k).2.1 (T k).2.2.1 = some x) (hfin : (T k).2.2.2 = false) {ty : FieldType} (hde : parseFieldDescriptor (T k).2.2.1 = some ty) (hn : ∀ a : Nat, narrow ty (.ref a) = .ref a) (hfit : ∀ a : Nat, fits ty (.ref a) = true) (hdg : decode cc pc = .ok (.putfield index, 3))
    (kk : ∀ (H1 : Heap) (locs1 : List Loc), wv g L (sP_ σ r k i n) s H1 locs1 → W p l e R s m args below meth c H1 locs1 cells slots Q (F0 m (pc + 3) ls rest)) : W p l e R s m args below meth c H locs cells slots Q (F0 m pc ls (.ref (L q n) :: .ref (L r i) :: rest)) := by
  have hP := (hW.2.1.1 r i hpr).1
  rw [wE_ob hr] at hP
  refine wy_put hexec hb hts hin ty0 hty hnm hown hW.1.1 hP hc k hk hlink hsame hfin hde (hn _) (hfit _) (by unfold fvl; rw [List.length_mapIdx]; exact (List.getElem?_eq_some_iff.mp hd).1) hdg fun H1 j' e1 e2 e3 => ?_
  rw [fvl_setP hf0 hd hlen] at e1
  have hr' : obv (sP_ σ r k i n) r i ci fk := by unfold obv at hr ⊢; rw [gP_sP, if_neg (fun z => by omega)]; exact hr
  exact kk H1 _ (hW.put hpr (by rw [wE_ob hr']; exact e1) e2 e3 (fun r' i' h => wE_sP h) rfl (fun h => vq_sP h hr hd hk9 hpn) (rdy_sP (by omega)))
/-! arrays -/
theorem ww_iald (hexec : p.tables.exec = Jvm.exec) (hb : c.code = cc) (hW : wv g L σ s H locs) (r i : Nat) {n : Nat} (hpr : pr σ r i) (hr : rK r = (1, 0, n)) {j : Int32} (hin : vp_in j n) (hdg : decode cc pc = .ok (.iaload, 1))
    (kk : W p l e R s m args below meth c H locs cells slots Q (F0 m (pc + 1) ls (.int (gA_ σ r i j.toNatClampNeg) :: rest))) : W p l e R s m args below meth c H locs cells slots Q (F0 m pc ls (.int j :: .ref (L r i) :: rest)) := by
  have hP := ww_at hW hpr
  rw [wE_1 hr] at hP
  exact va_iald hexec hb hW.1.1 hP 0 0 rfl rfl hin hdg kk
theorem ww_ialdV (hexec : p.tables.exec = Jvm.exec) (hb : c.code = cc) (hW : wv g L σ s H locs) (r i : Nat) {n : Nat} (hpr : pr σ r i) (hr : rK r = (2, 0, n)) {j : Int32} (hin : vp_in j (gP_ σ r 0 i)) (hdg : decode cc pc = .ok (.iaload, 1))
    (kk : W p l e R s m args below meth c H locs cells slots Q (F0 m (pc + 1) ls (.int (gA_ σ r i j.toNatClampNeg) :: rest))) : W p l e R s m args below meth c H locs cells slots Q (F0 m pc ls (.int j :: .ref (L r i) :: rest)) := by
  have hP := ww_at hW hpr
  rw [wE_2 hr] at hP
  exact va_iald hexec hb hW.1.1 hP 0 0 rfl rfl hin hdg kk
theorem ww_bald (hexec : p.tables.exec = Jvm.exec) (hb : c.code = cc) (hW : wv g L σ s H locs) (r i : Nat) {n : Nat} (hpr : pr σ r i) (hr : rK r = (1, 1, n)) {j : Int32} (hin : vp_in j n) (hdg : decode cc pc = .ok (.baload, 1))
    (kk : W p l e R s m args below meth c H locs cells slots Q (F0 m (pc + 1) ls (.int (gA_ σ r i j.toNatClampNeg) :: rest))) : W p l e R s m args below meth c H locs cells slots Q (F0 m pc ls (.int j :: .ref (L r i) :: rest)) := by
  have hP := ww_at hW hpr
  rw [wE_1 hr] at hP
  exact va_bald hexec hb hW.1.1 hP 0 1 rfl rfl hin hdg kk
theorem ww_zald (hexec : p.tables.exec = Jvm.exec) (hb : c.code = cc) (hW : wv g L σ s H locs) (r i : Nat) {n : Nat} (hpr : pr σ r i) (hr : rK r = (1, 2, n)) {j : Int32} (hin : vp_in j n) (hdg : decode cc pc = .ok (.baload, 1))
    (kk : W p l e R s m args below meth c H locs cells slots Q (F0 m (pc + 1) ls (.int (gA_ σ r i j.toNatClampNeg) :: rest))) : W p l e R s m args below meth c H locs cells slots Q (F0 m pc ls (.int j :: .ref (L r i) :: rest)) := by
  have hP := ww_at hW hpr
  rw [wE_1 hr] at hP
  exact va_zald hexec hb hW.1.1 hP 0 2 rfl rfl hin hdg kk
theorem wy_st {H1 : Heap} {a : Nat} {cA : ClassId} {n : Nat} {f f' : Nat → Int32} {j : Nat} {y : Int32} (e : H1[a]? = some ((vp_cell cA (n, .inl f)).setSlot j (.int y))) (hf : f' = upd f j y) : H1[a]? = some (vp_cell cA (n, .inl f')) := by
  rw [e, vp_cell_i, vp_cell_i, arrV_store, hf]
  congr 2
  funext q
  by_cases hq : q = j
  · simp [updV, upd, hq]
  · simp [updV, upd, hq]
theorem ww_iast (hexec : p.tables.exec = Jvm.exec) (hb : c.code = cc) (hW : wv g L σ s H locs) (r i : Nat) {n : Nat} (hpr : pr σ r i) (hr : rK r = (1, 0, n)) {j x : Int32} (hin : vp_in j n) (hdg : decode cc pc = .ok (.iastore, 1))
    (kk : ∀ (H1 : Heap) (locs1 : List Loc), wv g L (sE_ σ r i j.toNatClampNeg x) s H1 locs1 → W p l e R s m args below meth c H1 locs1 cells slots Q (F0 m (pc + 1) ls rest)) : W p l e R s m args below meth c H locs cells slots Q (F0 m pc ls (.int x :: .int j :: .ref (L r i) :: rest)) := by
  have hP := (hW.2.1.1 r i hpr).1
  rw [wE_1 hr] at hP
  refine W.iast hexec hb hP ((hW.1.1.2 0 _ rfl).1 n (fun j => .int (gA_ σ r i j))) (fun q => by cases q) (by show ¬ (j < 0 ∨ (arrV _ _ _).slots.size ≤ _); rw [arrV_size]; exact hin) rfl rfl hdg fun H1 e z oq => ?_
  refine kk H1 _ (hW.put hpr ?_ z oq (fun r' i' h => wE_sA h) rfl (vq_FA rfl rfl) (rdy_FA rfl rfl))
  rw [wE_1 hr]
  exact wy_st e (by unfold sE_; rw [gA_sA, if_pos ⟨rfl, rfl⟩])
theorem ww_iastV (hexec : p.tables.exec = Jvm.exec) (hb : c.code = cc) (hW : wv g L σ s H locs) (r i : Nat) {n : Nat} (hpr : pr σ r i) (hr : rK r = (2, 0, n)) {j x : Int32} (hin : vp_in j (gP_ σ r 0 i)) (hdg : decode cc pc = .ok (.iastore, 1))
    (kk : ∀ (H1 : Heap) (locs1 : List Loc), wv g L (sE_ σ r i j.toNatClampNeg x) s H1 locs1 → W p l e R s m args below meth c H1 locs1 cells slots Q (F0 m (pc + 1) ls rest)) : W p l e R s m args below meth c H locs cells slots Q (F0 m pc ls (.int x :: .int j :: .ref (L r i) :: rest)) := by
  have hP := (hW.2.1.1 r i hpr).1
  rw [wE_2 hr] at hP
  refine W.iast hexec hb hP ((hW.1.1.2 0 _ rfl).1 _ (fun j => .int (gA_ σ r i j))) (fun q => by cases q) (by show ¬ (j < 0 ∨ (arrV _ _ _).slots.size ≤ _); rw [arrV_size]; exact hin) rfl rfl hdg fun H1 e z oq => ?_
  refine kk H1 _ (hW.put hpr ?_ z oq (fun r' i' h => wE_sA h) rfl (vq_FA rfl rfl) (rdy_FA rfl rfl))
  rw [wE_2 hr]
  exact wy_st e (by unfold sE_; rw [gA_sA, if_pos ⟨rfl, rfl⟩])
theorem ww_bast (hexec : p.tables.exec = Jvm.exec) (hb : c.code = cc) (hW : wv g L σ s H locs) (r i : Nat) {n : Nat} (hpr : pr σ r i) (hr : rK r = (1, 1, n)) {j x : Int32} (hin : vp_in j n) (hdg : decode cc pc = .ok (.bastore, 1))
    (kk : ∀ (H1 : Heap) (locs1 : List Loc), wv g L (sE_ σ r i j.toNatClampNeg (vp_nar .byte x)) s H1 locs1 → W p l e R s m args below meth c H1 locs1 cells slots Q (F0 m (pc + 1) ls rest)) : W p l e R s m args below meth c H locs cells slots Q (F0 m pc ls (.int x :: .int j :: .ref (L r i) :: rest)) := by
  have hP := (hW.2.1.1 r i hpr).1
  rw [wE_1 hr] at hP
  refine W.bast hexec hb hP ((hW.1.1.2 1 _ rfl).1 n (fun j => .int (gA_ σ r i j))) (fun q => by cases q) (by show ¬ (j < 0 ∨ (arrV _ _ _).slots.size ≤ _); rw [arrV_size]; exact hin) rfl rfl hdg fun H1 e z oq => ?_
  refine kk H1 _ (hW.put hpr ?_ z oq (fun r' i' h => wE_sA h) rfl (vq_FA rfl rfl) (rdy_FA rfl rfl))
  rw [wE_1 hr]
  exact wy_st e (by unfold sE_; rw [gA_sA, if_pos ⟨rfl, rfl⟩]; rfl)
theorem ww_zast (hexec : p.tables.exec = Jvm.exec) (hb : c.code = cc) (hW : wv g L σ s H locs) (r i : Nat) {n : Nat} (hpr : pr σ r i) (hr : rK r = (1, 2, n)) {j x : Int32} (hin : vp_in j n) (hdg : decode cc pc = .ok (.bastore, 1))
    (kk : ∀ (H1 : Heap) (locs1 : List Loc), wv g L (sE_ σ r i j.toNatClampNeg (vp_nar .boolean x)) s H1 locs1 → W p l e R s m args below meth c H1 locs1 cells slots Q (F0 m (pc + 1) ls rest)) : W p l e R s m args below meth c H locs cells slots Q (F0 m pc ls (.int x :: .int j :: .ref (L r i) :: rest)) := by
  have hP := (hW.2.1.1 r i hpr).1
  rw [wE_1 hr] at hP
  refine W.zast hexec hb hP ((hW.1.1.2 2 _ rfl).1 n (fun j => .int (gA_ σ r i j))) (fun q => by cases q) (by show ¬ (j < 0 ∨ (arrV _ _ _).slots.size ≤ _); rw [arrV_size]; exact hin) rfl rfl hdg fun H1 e z oq => ?_
  refine kk H1 _ (hW.put hpr ?_ z oq (fun r' i' h => wE_sA h) rfl (vq_FA rfl rfl) (rdy_FA rfl rfl))
  rw [wE_1 hr]
  exact wy_st e (by unfold sE_; rw [gA_sA, if_pos ⟨rfl, rfl⟩]; rfl)
theorem ww_alen (hexec : p.tables.exec = Jvm.exec) (hb : c.code = cc) (hW : wv g L σ s H locs) (r i : Nat) {ty n : Nat} {t : FieldType} (hpr : pr σ r i) (hr : rK r = (1, ty, n)) (ht : (wty g)[ty]? = some (gC g ty, t)) {v : Int32} (hv : Int32.ofNat n = v) (hdg : decode cc pc = .ok (.arraylength, 1))
    (kk : W p l e R s m args below meth c H locs cells slots Q (F0 m (pc + 1) ls (.int v :: rest))) : W p l e R s m args below meth c H locs cells slots Q (F0 m pc ls (.ref (L r i) :: rest)) := by
  have hP := ww_at hW hpr
  rw [wE_1 hr] at hP
  exact va_alen hexec hb hW.1.1 hP 0 ty rfl ht hv hdg kk
/-- a reference out of an array of arrays -/
theorem ww_aaldI (hexec : p.tables.exec = Jvm.exec) (hb : c.code = cc) (hW : wv g L σ s H locs) (r i : Nat) {q n : Nat} (hpr : pr σ r i) (hr : rK r = (3, q, n)) {j : Int32} (hin : vp_in j n) (hdg : decode cc pc = .ok (.aaload, 1))
    (kk : W p l e R s m args below meth c H locs cells slots Q (F0 m (pc + 1) ls (.ref (L q (n * i + j.toNatClampNeg)) :: rest))) : W p l e R s m args below meth c H locs cells slots Q (F0 m pc ls (.int j :: .ref (L r i) :: rest)) := by
  have hP := (hW.2.1.1 r i hpr).1
  rw [wE_3 hr] at hP
  have hlt : j.toNatClampNeg < n := Nat.not_le.mp fun q => hin (Or.inr q)
  exact W.aald (v := .ref (L q (n * i + j.toNatClampNeg))) (ty := .array .int) hexec hb hP ((hW.1.1.2 4 _ rfl).1 n (fun j => va_rf (if j < n then some (L q (n * i + j)) else none))) rfl (fun q => by cases q) (by show ¬ (j < 0 ∨ (arrV _ _ _).slots.size ≤ _); rw [arrV_size]; exact hin) (by show (arrV _ _ _).slots[_]? = _; rw [arrV_read _ _ hlt]; show some (va_rf (if j.toNatClampNeg < n then _ else _)) = _; rw [if_pos hlt]; rfl) rfl rfl hdg kk
theorem ww_aaldZ (hexec : p.tables.exec = Jvm.exec) (hb : c.code = cc) (hW : wv g L σ s H locs) (r i : Nat) {q n : Nat} (hpr : pr σ r i) (hr : rK r = (4, q, n)) {j : Int32} (hin : vp_in j n) (hdg : decode cc pc = .ok (.aaload, 1))
    (kk : W p l e R s m args below meth c H locs cells slots Q (F0 m (pc + 1) ls (.ref (L q (n * i + j.toNatClampNeg)) :: rest))) : W p l e R s m args below meth c H locs cells slots Q (F0 m pc ls (.int j :: .ref (L r i) :: rest)) := by
  have hP := (hW.2.1.1 r i hpr).1
  rw [wE_4 hr] at hP
  have hlt : j.toNatClampNeg < n := Nat.not_le.mp fun q => hin (Or.inr q)
  exact W.aald (v := .ref (L q (n * i + j.toNatClampNeg))) (ty := .array .boolean) hexec hb hP ((hW.1.1.2 5 _ rfl).1 n (fun j => va_rf (if j < n then some (L q (n * i + j)) else none))) rfl (fun q => by cases q) (by show ¬ (j < 0 ∨ (arrV _ _ _).slots.size ≤ _); rw [arrV_size]; exact hin) (by show (arrV _ _ _).slots[_]? = _; rw [arrV_read _ _ hlt]; show some (va_rf (if j.toNatClampNeg < n then _ else _)) = _; rw [if_pos hlt]; rfl) rfl rfl hdg kk
/-- the receiver of a call -/
theorem ww_recv (hW : wv g L σ s H locs) {r i ci : Nat} {fk : List (Nat × Nat × Nat)} {q : vw_C} (hpr : pr σ r i) (hr : obv σ r i ci fk) (hc : wcl[ci]? = some q) : ∃ cell : Cell, H[L r i]? = some cell ∧ cell.vm.isStatics = false ∧ s.vm.findClass q.1 = some cell.cls := by
  have hP := ww_at hW hpr
  rw [wE_ob hr] at hP
  exact va_recv (q0 := 0) hW.1.1 hP hc rfl
theorem ww_preV (hW : wv g L σ s H locs) {r i ci : Nat} {fk : List (Nat × Nat × Nat)} {C : String} {T : u_T} {N : Nat} {As : List Value} (hpr : pr σ r i) (hr : obv σ r i ci fk) (hc : wcl[ci]? = some (C, T, N)) : PreV s H C (L r i) (va_Pc (.ref (L r i) :: As) (wd g L σ)) As :=
  ⟨wd.blind, ww_recv hW hpr hr hc, fun _ hU hW' => ⟨rfl, hW.pre hU hW'⟩⟩
theorem ww_preS (hW : wv g L σ s H locs) {As : List Value} : PreS s H (va_Pc As (wd g L σ)) As := ⟨wd.blind, fun _ hU hW' => ⟨rfl, hW.pre hU hW'⟩⟩
theorem wv.back (hW : wv g L σ s H locs) {L' : ly_T} {σ' : st_T} {t : State} {H1 : Heap} {locs1 : List Loc} (ht : t.heap = H1) (hB : wq g L' σ' t.heap) (hS : va_S (fun q => gz g ≤ q) s.heap H1 locs1) : wv g L' σ' s H1 locs1 := ⟨hW.1, by rw [← ht]; exact hB, hS, hW.2.2.2⟩
end WROWS
/-! ===== contracts ===== -/
/-- an int, same layout -/
abbrev wQi (g : wg_T) (L : ly_T) (v : Int32) (σ' : st_T) : Array Value → State → Outcome → State → Prop := va_Qi (fun (r : Int32) (_ : Unit) => r = v) (fun _ t => wq g L σ' t.heap) (fun q => gz g ≤ q)
abbrev wQv (g : wg_T) (L : ly_T) (σ' : st_T) : Array Value → State → Outcome → State → Prop := va_Qv (fun (_ : Unit) => True) (fun _ t => wq g L σ' t.heap) (fun q => gz g ≤ q)
abbrev wQr (g : wg_T) (L : ly_T) (v : Nat) (σ' : st_T) : Array Value → State → Outcome → State → Prop := va_Qr (fun (_ : Unit) => True) (fun _ a t => a = v ∧ wq g L σ' t.heap) (fun q => gz g ≤ q)
abbrev wrm (fr lo mc ms : Nat) : Room := { frames := fr, cells := mc, slots := ms, locals := lo }
/-- the contract of a method that returns an int and makes nothing that stays -/
def CI (g : wg_T) (l : Launch) (y : MethodName) (ws : List Cond) (fr lo mc ms : Nat) (av : List Value) (L : ly_T) (σ : st_T) (v : Int32) (σ' : st_T) : Prop := Met l y ws (wrm fr lo mc ms) (va_Pc av (wd g L σ)) (wQi g L v σ') mc ms (fun q => gz g ≤ q)
def CV (g : wg_T) (l : Launch) (y : MethodName) (ws : List Cond) (fr lo mc ms : Nat) (av : List Value) (L : ly_T) (σ : st_T) (σ' : st_T) : Prop := Met l y ws (wrm fr lo mc ms) (va_Pc av (wd g L σ)) (wQv g L σ') mc ms (fun q => gz g ≤ q)
def CR (g : wg_T) (l : Launch) (y : MethodName) (ws : List Cond) (fr lo mc ms : Nat) (av : List Value) (L : ly_T) (σ : st_T) (v : Nat) (σ' : st_T) : Prop := Met l y ws (wrm fr lo mc ms) (va_Pc av (wd g L σ)) (wQr g L v σ') mc ms (fun q => gz g ≤ q)
section WCALLS
variable {p : Program} {l : Launch} {e : Env} {R : Room} {s : State} {m : MethodId} {args : Array Value} {below : List Frame} {meth : Method} {c : Code} {H : Heap} {locs : List Loc} {cells slots : Nat} {Q : State → Prop}
variable {pc : Nat} {ls : Array Slot} {rest st0 : List Value} {a : Array Value} {mc ms : Nat} {g : wg_T} {L : ly_T} {σ σ' : st_T}
theorem ww_ci {v : Int32} (hr : va_Run p l e R s m args below meth c H locs cells slots mc ms (F0 m pc ls st0) rest (wQi g L v σ' a) (fun q => gz g ≤ q)) (hW : wv g L σ s H locs)
    (kk : ∀ (H1 : Heap) (locs1 : List Loc), wv g L σ' s H1 locs1 → W p l e R s m args below meth c H1 locs1 (cells + mc) (slots + ms) Q (F0 m (pc + 3) ls (.int v :: rest))) : W p l e R s m args below meth c H locs cells slots Q (F0 m pc ls st0) := by
  refine va_calli hr hW.2.2.1 (fun q _ h => h) (fun q h => h) (fun r u t H1 locs1 ht hvm hp hB hz hk hS => ?_)
  have hp : r = v := hp
  rw [hp]
  exact kk H1 locs1 (hW.back ht hB hS)
theorem ww_cv (hr : va_Run p l e R s m args below meth c H locs cells slots mc ms (F0 m pc ls st0) rest (wQv g L σ' a) (fun q => gz g ≤ q)) (hW : wv g L σ s H locs)
    (kk : ∀ (H1 : Heap) (locs1 : List Loc), wv g L σ' s H1 locs1 → W p l e R s m args below meth c H1 locs1 (cells + mc) (slots + ms) Q (F0 m (pc + 3) ls rest)) : W p l e R s m args below meth c H locs cells slots Q (F0 m pc ls st0) :=
  va_callv hr hW.2.2.1 (fun q _ h => h) (fun q h => h) (fun _ _ H1 locs1 ht _ _ hB _ _ hS => kk H1 locs1 (hW.back ht hB hS))
theorem ww_cr {v : Nat} (hr : va_Run p l e R s m args below meth c H locs cells slots mc ms (F0 m pc ls st0) rest (wQr g L v σ' a) (fun q => gz g ≤ q)) (hW : wv g L σ s H locs)
    (kk : ∀ (H1 : Heap) (locs1 : List Loc), wv g L σ' s H1 locs1 → W p l e R s m args below meth c H1 locs1 (cells + mc) (slots + ms) Q (F0 m (pc + 3) ls (.ref v :: rest))) : W p l e R s m args below meth c H locs cells slots Q (F0 m pc ls st0) := by
  refine va_callr hr hW.2.2.1 (fun q _ h => h) (fun q h => h) (fun u ra t H1 locs1 ht hvm hp hB hz hk hS => ?_)
  obtain ⟨e1, hB⟩ := hB
  have e1 : ra = v := e1
  rw [e1]
  exact kk H1 locs1 (hW.back ht hB hS)
end WCALLS

