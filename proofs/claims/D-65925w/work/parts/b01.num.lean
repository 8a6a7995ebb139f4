/-! Layer B: numbers, guards, steps -/
set_option maxRecDepth 100000
theorem ifT {α : Type} {c : Prop} [Decidable c] {a b : α} (h : c) : (if c then a else b) = a := if_pos h
theorem ifF {α : Type} {c : Prop} [Decidable c] {a b : α} (h : ¬ c) : (if c then a else b) = b := if_neg h
theorem nm_eq {α β : Type} (x : α) (f : α → β) : nm x f = f x := rfl
theorem ob_some {α β τ : Type} (a : α) (t : τ) (k : α → τ → Option β) : ob (some (a, t)) k = k a t := rfl
theorem obS_inl {α ρ β τ : Type} (a : α) (t : τ) (kr : ρ → τ → Option β) (k : α → τ → Option β) : obS (some (.inl a, t)) kr k = k a t := rfl
theorem obS_inr {α ρ β τ : Type} (a : ρ) (t : τ) (kr : ρ → τ → Option β) (k : α → τ → Option β) : obS (some (.inr a, t)) kr k = kr a t := rfl
theorem bI_toInt {n : Nat} (h : n < 2147483648) : (nI n).toInt = n := by
  show (Int32.ofNat n).toInt = n
  rw [Int32.toInt_ofNat', show (Int32.size : Nat) = 4294967296 from rfl, Int.bmod_eq_of_le] <;> omega
theorem ix_nI {n : Nat} (h : n < 2147483648) : ix (nI n) = n := by
  show (nI n).toInt.toNat = n
  rw [bI_toInt h]; rfl
theorem bI_add (a b : Nat) : nI a + nI b = nI (a + b) := (Int32.ofNat_add a b).symm
theorem nI_sub {a b : Nat} (h : b ≤ a) : nI a - nI b = nI (a - b) := by
  have e : nI a = nI (a - b) + nI b := by rw [bI_add]; congr 1; omega
  rw [e, Int32.add_sub_cancel]
theorem nI_addL (a k : Nat) : nI a + (no_index (OfNat.ofNat k) : Int32) = nI (a + OfNat.ofNat k) := bI_add a k
theorem nI_Ladd (a k : Nat) : (no_index (OfNat.ofNat k) : Int32) + nI a = nI (OfNat.ofNat k + a) := bI_add k a
theorem nI_subL (a k : Nat) (h : OfNat.ofNat k ≤ a) : nI a - (no_index (OfNat.ofNat k) : Int32) = nI (a - OfNat.ofNat k) := nI_sub h
theorem bI_le {a b : Nat} (ha : a < 2147483648) (hb : b < 2147483648) : nI a ≤ nI b ↔ a ≤ b := by
  rw [Int32.le_iff_toInt_le, bI_toInt ha, bI_toInt hb]; omega
theorem bI_lt {a b : Nat} (ha : a < 2147483648) (hb : b < 2147483648) : nI a < nI b ↔ a < b := by
  rw [Int32.lt_iff_toInt_lt, bI_toInt ha, bI_toInt hb]; omega
theorem bI_eq {a b : Nat} (ha : a < 2147483648) (hb : b < 2147483648) : nI a = nI b ↔ a = b := by
  constructor
  · intro h
    have := congrArg Int32.toInt h
    rw [bI_toInt ha, bI_toInt hb] at this
    omega
  · intro h; rw [h]
theorem nI_leL {a k : Nat} (ha : a < 2147483648) (hk : OfNat.ofNat k < 2147483648) : nI a ≤ (no_index (OfNat.ofNat k) : Int32) ↔ a ≤ OfNat.ofNat k := bI_le ha hk
theorem nI_Lle {a k : Nat} (ha : a < 2147483648) (hk : OfNat.ofNat k < 2147483648) : (no_index (OfNat.ofNat k) : Int32) ≤ nI a ↔ OfNat.ofNat k ≤ a := bI_le hk ha
theorem nI_ltL {a k : Nat} (ha : a < 2147483648) (hk : OfNat.ofNat k < 2147483648) : nI a < (no_index (OfNat.ofNat k) : Int32) ↔ a < OfNat.ofNat k := bI_lt ha hk
theorem nI_Llt {a k : Nat} (ha : a < 2147483648) (hk : OfNat.ofNat k < 2147483648) : (no_index (OfNat.ofNat k) : Int32) < nI a ↔ OfNat.ofNat k < a := bI_lt hk ha
theorem nI_eqL {a k : Nat} (ha : a < 2147483648) (hk : OfNat.ofNat k < 2147483648) : nI a = (no_index (OfNat.ofNat k) : Int32) ↔ a = OfNat.ofNat k := bI_eq ha hk
theorem nI_Leq {a k : Nat} (ha : a < 2147483648) (hk : OfNat.ofNat k < 2147483648) : (no_index (OfNat.ofNat k) : Int32) = nI a ↔ OfNat.ofNat k = a := bI_eq hk ha
theorem inb_nI {a n : Nat} (ha : a < 2147483648) : inb (nI a) n ↔ a < n := by
  unfold inb
  have h0 : ¬ nI a < 0 := fun h => by
    rw [show (0 : Int32) = nI 0 from rfl, bI_lt ha (by decide)] at h
    omega
  have e : (nI a).toNatClampNeg = a := ix_nI ha
  rw [e]
  constructor
  · intro h; exact Nat.lt_of_not_le (fun q => h (Or.inr q))
  · rintro h (q | q)
    · exact h0 q
    · omega
theorem inb_nI' {a n : Nat} (h : a < n) (hn : n ≤ 2147483648) : inb (nI a) n := (inb_nI (Nat.lt_of_lt_of_le h hn)).mpr h
/-- an int within bounds is a small number -/
theorem bI_of {x : Int32} (h : 0 ≤ x) : ∃ n, x = nI n ∧ n < 2147483648 := by
  have h1 : (0 : Int) ≤ x.toInt := by simpa using Int32.le_iff_toInt_le.mp h
  have h2 : x.toInt < 2147483648 := by have := Int32.toInt_lt x; simpa using this
  refine ⟨x.toInt.toNat, ?_, by omega⟩
  apply Int32.toInt_inj.mp
  rw [bI_toInt (by omega)]
  omega
theorem nI_neg {x : Int32} (h : ¬ 0 ≤ x) : x < 0 := Int32.not_le.mp h
