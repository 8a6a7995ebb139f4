/-! Layer B: units: the twin's packed exponents -/
set_option maxRecDepth 100000
def iI (x : Int) : Int32 := Int32.ofInt x
abbrev E3 : Type := Int × Int × Int
/-- unlike, any, or three exponents -/
abbrev UV : Type := Option (Option E3)
def bU (b : Nat) (e : E3) : Prop := (-(b : Int) ≤ e.1 ∧ e.1 ≤ b) ∧ (-(b : Int) ≤ e.2.1 ∧ e.2.1 ≤ b) ∧ (-(b : Int) ≤ e.2.2 ∧ e.2.2 ≤ b)
def pN (e : E3) : Nat := (e.1 + 500000).toNat * 4398046511104 + (e.2.1 + 500000).toNat * 2097152 + (e.2.2 + 500000).toNat
def pU (e : E3) : Int64 := n64 (pN e)
def eUV : UV → Int64
  | none => -1
  | some none => -2
  | some (some e) => pU e
def uAl : UV → UV → UV
  | none, _ => none
  | some _, none => none
  | some none, w => w
  | some (some a), some none => some (some a)
  | some (some a), some (some b) => if a = b then some (some a) else none
def eAd (s : Int) (a b : E3) : E3 := (a.1 + s * b.1, a.2.1 + s * b.2.1, a.2.2 + s * b.2.2)
def uMu (s : Int) : UV → UV → UV
  | none, _ => none
  | some _, none => none
  | some none, some none => some none
  | some none, some (some b) => some (some (eAd s (0, 0, 0) b))
  | some (some a), some none => some (some (eAd s a (0, 0, 0)))
  | some (some a), some (some b) => some (some (eAd s a b))
def bV (b : Nat) : UV → Prop
  | some (some e) => bU b e
  | _ => True
section UNIT1
variable {σ : TS} {a b : Int} {n m k : Nat} {e f : E3} {u w : UV} {s : Int}
theorem iI_add (a b : Int) : iI a + iI b = iI (a + b) := (Int32.ofInt_add a b).symm
theorem iI_neg (a : Int) : - iI a = iI (-a) := (Int32.ofInt_neg a).symm
theorem iI_sub (a b : Int) : iI a - iI b = iI (a - b) := (Int32.ofInt_sub a b).symm
theorem iI_mul (a b : Int) : iI a * iI b = iI (a * b) := (Int32.ofInt_mul a b).symm
theorem iI_toInt (h : -2147483648 ≤ a ∧ a < 2147483648) : (iI a).toInt = a := by
  unfold iI
  rw [Int32.toInt_ofInt, show (Int32.size : Nat) = 4294967296 from rfl, Int.bmod_eq_of_le] <;> omega
theorem iI_nI (n : Nat) : nI n = iI (n : Int) := rfl
theorem iI_eq (ha : -2147483648 ≤ a ∧ a < 2147483648) (hb : -2147483648 ≤ b ∧ b < 2147483648) : iI a = iI b ↔ a = b := by
  constructor
  · intro h
    have := congrArg Int32.toInt h
    rw [iI_toInt ha, iI_toInt hb] at this
    exact this
  · intro h; rw [h]
theorem n64_nat (h : k < 18446744073709551616) : (n64 k).toBitVec.toNat = k := by
  show (Int64.ofNat k).toBitVec.toNat = k
  rw [Int64.toBitVec_ofNat', BitVec.toNat_ofNat]; omega
theorem n64_sh42 (h : n < 2097152) : n64 n <<< (((42 : Int32)).toInt64 &&& 63) = n64 (n * 4398046511104) := by
  apply Int64.toBitVec_inj.mp
  have e : (n64 n <<< (((42 : Int32)).toInt64 &&& 63)).toBitVec = (n64 n).toBitVec <<< 42 := rfl
  rw [e]
  apply BitVec.eq_of_toNat_eq
  rw [BitVec.toNat_shiftLeft, Nat.shiftLeft_eq, n64_nat (by omega), n64_nat (by omega)]
  omega
theorem n64_sh21 (h : n < 2097152) : n64 n <<< (((21 : Int32)).toInt64 &&& 63) = n64 (n * 2097152) := by
  apply Int64.toBitVec_inj.mp
  have e : (n64 n <<< (((21 : Int32)).toInt64 &&& 63)).toBitVec = (n64 n).toBitVec <<< 21 := rfl
  rw [e]
  apply BitVec.eq_of_toNat_eq
  rw [BitVec.toNat_shiftLeft, Nat.shiftLeft_eq, n64_nat (by omega), n64_nat (by omega)]
  omega
theorem n64_or (hk : m < 2 ^ k) (h : n * 2 ^ k + m < 18446744073709551616) : n64 (n * 2 ^ k) ||| n64 m = n64 (n * 2 ^ k + m) := by
  apply Int64.toBitVec_inj.mp
  apply BitVec.eq_of_toNat_eq
  have h1 : m < 18446744073709551616 := by omega
  have h2 : n * 2 ^ k < 18446744073709551616 := by omega
  rw [Int64.toBitVec_or, BitVec.toNat_or, n64_nat h2, n64_nat h1, n64_nat h, ← Nat.shiftLeft_eq, Nat.shiftLeft_add_eq_or_of_lt hk]
theorem t_uf (h : bU 400000 e) : F_unitFrom (iI e.1) (iI e.2.1) (iI e.2.2) σ = some (pU e, σ) := by
  obtain ⟨⟨a1, a2⟩, ⟨b1, b2⟩, c1, c2⟩ := h
  have x : ∀ a : Int, -(400000 : Int) ≤ a → a ≤ 400000 → (iI a + 500000).toInt64 = n64 (a + 500000).toNat ∧ (a + 500000).toNat < 2097152 := fun a h1 h2 => by
    have e1 : iI a + 500000 = nI (a + 500000).toNat := by
      rw [show (500000 : Int32) = iI 500000 from rfl, iI_add, iI_nI, Int.toNat_of_nonneg (by omega)]
    rw [e1, nI_i64 (by omega)]
    exact ⟨rfl, by omega⟩
  obtain ⟨x1, y1⟩ := x e.1 a1 a2
  obtain ⟨x2, y2⟩ := x e.2.1 b1 b2
  obtain ⟨x3, y3⟩ := x e.2.2 c1 c2
  unfold F_unitFrom pU pN
  rw [x1, x2, x3, n64_sh42 y1, n64_sh21 y2]
  generalize (e.1 + 500000).toNat = A at *
  generalize (e.2.1 + 500000).toNat = B at *
  generalize (e.2.2 + 500000).toNat = C at *
  have o1 : n64 (A * 4398046511104) ||| n64 (B * 2097152) = n64 (A * 4398046511104 + B * 2097152) := n64_or (k := 42) (by omega) (by omega)
  have o2 : n64 (A * 4398046511104 + B * 2097152) ||| n64 C = n64 (A * 4398046511104 + B * 2097152 + C) := by
    have e1 : A * 4398046511104 + B * 2097152 = (A * 2097152 + B) * 2 ^ 21 := by omega
    rw [e1]
    exact n64_or (k := 21) (by omega) (by omega)
  rw [o1, o2]
theorem pN_b (h : bU 400000 e) : pN e < 9223372036854775808 := by
  obtain ⟨⟨a1, a2⟩, ⟨b1, b2⟩, c1, c2⟩ := h
  unfold pN
  omega
theorem n64_and (h : n < 9223372036854775808) : n64 n &&& 2097151 = n64 (n % 2097152) := by
  apply Int64.toBitVec_inj.mp
  apply BitVec.eq_of_toNat_eq
  rw [Int64.toBitVec_and, BitVec.toNat_and, n64_nat (by omega), n64_nat (by omega)]
  show n &&& 2097151 = n % 2097152
  exact Nat.and_two_pow_sub_one_eq_mod n 21
theorem n64_shr (h : n < 9223372036854775808) {y : Int64} (hy : (n64 n >>> y).toBitVec = (n64 n).toBitVec.sshiftRight k) : n64 n >>> y = n64 (n / 2 ^ k) := by
  apply Int64.toBitVec_inj.mp
  rw [hy]
  have hm : (n64 n).toBitVec.msb = false := by
    rw [BitVec.msb_eq_false_iff_two_mul_lt, n64_nat (by omega)]; omega
  rw [BitVec.sshiftRight_eq_of_msb_false hm]
  apply BitVec.eq_of_toNat_eq
  have : n / 2 ^ k ≤ n := Nat.div_le_self _ _
  rw [BitVec.toNat_ushiftRight, Nat.shiftRight_eq_div_pow, n64_nat (by omega), n64_nat (by omega)]
theorem t_pt (h : bU 400000 e) : F_part (pU e) 0 σ = some (iI e.1, σ) ∧ F_part (pU e) 1 σ = some (iI e.2.1, σ) ∧ F_part (pU e) 2 σ = some (iI e.2.2, σ) := by
  have hb := pN_b h
  obtain ⟨⟨a1, a2⟩, ⟨b1, b2⟩, c1, c2⟩ := h
  have fin : ∀ (a : Int) (r : Nat), -(400000 : Int) ≤ a → a ≤ 400000 → r = (a + 500000).toNat → (n64 r).toInt32 - 500000 = iI a := fun a r h1 h2 hr => by
    rw [n64_i32, iI_nI, show (500000 : Int32) = iI 500000 from rfl, iI_sub, hr, Int.toNat_of_nonneg (by omega)]
    congr 1
    omega
  unfold F_part pU
  refine ⟨?_, ?_, ?_⟩
  · rw [n64_shr (k := 42) hb rfl, n64_and (by have := Nat.div_le_self (pN e) (2 ^ 42); omega), fin e.1 _ a1 a2 (by unfold pN; omega)]
  · rw [n64_shr (k := 21) hb rfl, n64_and (by have := Nat.div_le_self (pN e) (2 ^ 21); omega), fin e.2.1 _ b1 b2 (by unfold pN; omega)]
  · rw [n64_shr (k := 0) hb rfl, n64_and (by have := Nat.div_le_self (pN e) (2 ^ 0); omega), fin e.2.2 _ c1 c2 (by unfold pN; omega)]
theorem pU_inj (h : bU 400000 e) (g : bU 400000 f) : pU e = pU f ↔ e = f := by
  constructor
  · intro q
    have q := (n64_eq (pN_b h) (pN_b g)).mp q
    obtain ⟨⟨a1, a2⟩, ⟨b1, b2⟩, c1, c2⟩ := h
    obtain ⟨⟨d1, d2⟩, ⟨e1, e2⟩, f1, f2⟩ := g
    obtain ⟨x, y, z⟩ := e
    obtain ⟨x', y', z'⟩ := f
    unfold pN at q
    simp only at *
    have : x = x' := by omega
    have : y = y' := by omega
    have : z = z' := by omega
    simp [*]
  · intro q; rw [q]
theorem pU_ne (h : bU 400000 e) : pU e ≠ -1 ∧ pU e ≠ -2 ∧ ¬ pU e < 0 := by
  have t := n64_toInt (pN_b h)
  refine ⟨fun z => ?_, fun z => ?_, fun z => ?_⟩
  · have := congrArg Int64.toInt z
    rw [show pU e = n64 (pN e) from rfl, t] at this
    have e1 : (-1 : Int64).toInt = -1 := by decide
    rw [e1] at this
    omega
  · have := congrArg Int64.toInt z
    rw [show pU e = n64 (pN e) from rfl, t] at this
    have e1 : (-2 : Int64).toInt = -2 := by decide
    rw [e1] at this
    omega
  · rw [Int64.lt_iff_toInt_lt, show pU e = n64 (pN e) from rfl, t] at z
    have e1 : (0 : Int64).toInt = 0 := by decide
    omega
theorem e_un (h : bV 400000 u) : lg_cmp (eUV u) (-1) = 0 ↔ u = none := by
  rw [lg_eq]
  cases u with
  | none => exact ⟨fun _ => rfl, fun _ => rfl⟩
  | some u =>
    cases u with
    | none => exact ⟨fun z => absurd z (by decide), fun z => by cases z⟩
    | some e => exact ⟨fun z => absurd z (pU_ne h).1, fun z => by cases z⟩
theorem e_any (h : bV 400000 u) : lg_cmp (eUV u) (-2) = 0 ↔ u = some none := by
  rw [lg_eq]
  cases u with
  | none => exact ⟨fun z => absurd z (by decide), fun z => by cases z⟩
  | some u =>
    cases u with
    | none => exact ⟨fun _ => rfl, fun _ => rfl⟩
    | some e => exact ⟨fun z => absurd z (pU_ne h).2.1, fun z => by cases z⟩
/-- two that are to be alike -/
theorem t_alike (h : bV 400000 u) (g : bV 400000 w) : F_alike (eUV u) (eUV w) σ = some (eUV (uAl u w), σ) := by
  unfold F_alike
  cases u with
  | none => rw [ifT ((e_un h).mpr rfl)]; rfl
  | some u =>
    rw [ifF (fun z => by cases (e_un h).mp z)]
    cases w with
    | none => rw [ifT ((e_un g).mpr rfl)]; cases u <;> rfl
    | some w =>
      rw [ifF (fun z => by cases (e_un g).mp z)]
      cases u with
      | none => rw [ifT ((e_any h).mpr rfl)]; cases w <;> rfl
      | some a =>
        rw [ifF (fun z => by cases (e_any h).mp z)]
        cases w with
        | none => rw [ifT ((e_any g).mpr rfl)]; rfl
        | some b =>
          rw [ifF (fun z => by cases (e_any g).mp z)]
          show (if lg_cmp (pU a) (pU b) = 0 then some (pU a, σ) else some (-1, σ)) = some (eUV (if a = b then some (some a) else none), σ)
          by_cases q : a = b
          · rw [ifT (lg_eq.mpr ((pU_inj h g).mpr q)), ifT q]; rfl
          · rw [ifF (fun z => q ((pU_inj h g).mp (lg_eq.mp z))), ifF q]; rfl
end UNIT1
