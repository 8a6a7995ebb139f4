set_option maxRecDepth 100000
abbrev TS : Type := (Nat → Int32) × (Nat → Int64) × (Nat → Nat → Int32) × (Nat → Nat → Int64)
def tI (σ : TS) (k : Nat) : Int32 := σ.1 k
def tL (σ : TS) (k : Nat) : Int64 := σ.2.1 k
def tA (σ : TS) (k i : Nat) : Int32 := σ.2.2.1 k i
def tB (σ : TS) (k i : Nat) : Int64 := σ.2.2.2 k i
def tsI (σ : TS) (k : Nat) (v : Int32) : TS := (fun j => if j = k then v else σ.1 j, σ.2)
def tsL (σ : TS) (k : Nat) (v : Int64) : TS := (σ.1, fun j => if j = k then v else σ.2.1 j, σ.2.2)
def tsA (σ : TS) (k i : Nat) (v : Int32) : TS := (σ.1, σ.2.1, fun j x => if j = k ∧ x = i then v else σ.2.2.1 j x, σ.2.2.2)
def tsB (σ : TS) (k i : Nat) (v : Int64) : TS := (σ.1, σ.2.1, σ.2.2.1, fun j x => if j = k ∧ x = i then v else σ.2.2.2 j x)
def nZ (x : Int32) : Int32 := x &&& 1
def nB (x : Int32) : Int32 := x.toInt8.toInt32
def isB (x : Int32) : Prop := x = 0 ∨ x = 1
abbrev inb (j : Int32) (n : Nat) : Prop := ¬ (j < 0 ∨ n ≤ j.toNatClampNeg)
abbrev ix (j : Int32) : Nat := j.toNatClampNeg
def mmax (x y : Int32) : Int32 := if x < y then y else x
def mmin (x y : Int32) : Int32 := if y < x then y else x
def mminL (x y : Int64) : Int64 := if y < x then y else x
def mabsL (x : Int64) : Int64 := if 0 < x then x else -x
def nm {α β : Type} (x : α) (f : α → β) : β := f x
def ob {α β τ : Type} (o : Option (α × τ)) (k : α → τ → Option β) : Option β := match o with
  | some q => k q.1 q.2
  | none => none
theorem obE {α β τ : Type} {o : Option (α × τ)} {k : α → τ → Option β} {y : β} (h : ob o k = some y) : ∃ a t, o = some (a, t) ∧ k a t = some y := by
  cases o with
  | none => cases h
  | some q => exact ⟨q.1, q.2, rfl, h⟩
def obS {α ρ β τ : Type} (o : Option ((α ⊕ ρ) × τ)) (kr : ρ → τ → Option β) (k : α → τ → Option β) : Option β := match o with
  | some (.inl a, t) => k a t
  | some (.inr r, t) => kr r t
  | none => none
theorem obSE {α ρ β τ : Type} {o : Option ((α ⊕ ρ) × τ)} {kr : ρ → τ → Option β} {k : α → τ → Option β} {y : β} (h : obS o kr k = some y) : (∃ a t, o = some (.inl a, t) ∧ k a t = some y) ∨ ∃ r t, o = some (.inr r, t) ∧ kr r t = some y := by
  match o, h with
  | none, h => cases h
  | some (.inl a, t), h => exact Or.inl ⟨a, t, rfl, h⟩
  | some (.inr r, t), h => exact Or.inr ⟨r, t, rfl, h⟩
def FU : Nat := 4611686018427387904
theorem ifg {α : Type} {c : Prop} [Decidable c] {a : Option α} {y : α} (h : (if c then a else none) = some y) : c ∧ a = some y := by
  by_cases hc : c
  · rw [if_pos hc] at h; exact ⟨hc, h⟩
  · rw [if_neg hc] at h; cases h
abbrev TE : Type := Nat × (Nat → Nat) × ClassId × (Nat → Nat) × (Nat → ClassId) × (Nat → Nat)
abbrev TE.ca (E : TE) : Nat → ClassId := E.2.2.2.2.1
def tsB_ : List (List Int32) := [[99, 111, 110, 110, 101, 99, 116, 111, 114], [112, 97, 114, 97, 109, 101, 116, 101, 114], [114, 101, 100, 101, 99, 108, 97, 114, 101], [114, 101, 112, 108, 97, 99, 101, 97, 98, 108, 101], [109, 111, 100, 101, 108, 32, 99, 111, 110, 110, 101, 99, 116, 111, 114, 32, 102, 117, 110, 99, 116, 105, 111, 110, 32, 101, 110, 100, 32, 101, 120, 116, 101, 110, 100, 115, 32, 112, 97, 114, 97, 109, 101, 116, 101, 114, 32, 102, 108, 111, 119, 32, 100, 105, 115, 99, 114, 101, 116, 101, 32, 105, 110, 110, 101, 114, 32, 111, 117, 116, 101, 114, 32, 114, 101, 112, 108, 97, 99, 101, 97, 98, 108, 101, 32, 114, 101, 100, 101, 99, 108, 97, 114, 101, 32, 114, 101, 97, 108, 32, 105, 110, 105, 116, 105, 97, 108, 32, 101, 113, 117, 97, 116, 105, 111, 110, 32, 99, 111, 110, 110, 101, 99, 116, 32, 119, 104, 101, 110, 32, 116, 104, 101, 110, 32, 102, 111, 114, 32, 105, 110, 32, 108, 111, 111, 112, 32, 105, 102, 32, 101, 108, 115, 101, 32, 97, 110, 100, 32, 111, 114, 32, 110, 111, 116, 32, 100, 101, 114, 32, 112, 114, 101, 32, 114, 101, 105, 110, 105, 116, 32, 115, 97, 109, 112, 108, 101, 32, 116, 105, 109, 101, 32, 97, 98, 115, 32, 115, 113, 114, 116, 32, 109, 105, 110, 32, 109, 97, 120, 32, 115, 105, 103, 110, 32, 102, 108, 111, 111, 114, 32, 115, 116, 97, 114, 116, 32], [45, 40], [112, 114, 101, 40], [100, 49, 40], [100, 101, 114, 40], [116, 105, 109, 101], [97, 98, 115, 40], [115, 113, 114, 116, 40], [115, 105, 103, 110, 40], [102, 108, 111, 111, 114, 40], [109, 105, 110, 40], [109, 97, 120, 40], [40, 105, 102, 32], [32, 116, 104, 101, 110, 32], [32, 101, 108, 115, 101, 32], [32, 97, 110, 100, 32], [32, 111, 114, 32], [40, 110, 111, 116, 32], [115, 97, 109, 112, 108, 101, 40], [32, 61, 32], [114, 101, 105, 110, 105, 116, 40], [44]]
abbrev tsN : Nat := 26
def tslen (j : Nat) : Nat := (tsB_.getD j []).length
def tsch (j k : Nat) : Int32 := (tsB_.getD j []).getD k 0 &&& 255
