/-! Layer B: small longs, bytes, what a token is -/
set_option maxRecDepth 100000
def n64 (n : Nat) : Int64 := Int64.ofNat n
theorem n64_toInt {n : Nat} (h : n < 9223372036854775808) : (n64 n).toInt = n := by
  show (Int64.ofNat n).toInt = n
  rw [Int64.toInt_ofNat', show (Int64.size : Nat) = 18446744073709551616 from rfl, Int.bmod_eq_of_le] <;> omega
theorem n64_add (a b : Nat) : n64 a + n64 b = n64 (a + b) := (Int64.ofNat_add a b).symm
theorem n64_mul (a b : Nat) : n64 a * n64 b = n64 (a * b) := (Int64.ofNat_mul a b).symm
theorem n64_sub {a b : Nat} (h : b ≤ a) : n64 a - n64 b = n64 (a - b) := by
  have e : n64 a = n64 (a - b) + n64 b := by rw [n64_add]; congr 1; omega
  rw [e, Int64.add_sub_cancel]
theorem n64_div {a b : Nat} (ha : a < 9223372036854775808) (hb : b < 9223372036854775808) : n64 a / n64 b = n64 (a / b) := by
  apply Int64.toInt_inj.mp
  have h : a / b ≤ a := Nat.div_le_self a b
  rw [n64_toInt (by omega), Int64.toInt_div, n64_toInt ha, n64_toInt hb, ← Int.ofNat_tdiv]
  generalize a / b = q at h
  rw [Int.bmod_eq_of_le] <;> omega
theorem n64_eq {a b : Nat} (ha : a < 9223372036854775808) (hb : b < 9223372036854775808) : n64 a = n64 b ↔ a = b := by
  constructor
  · intro h
    have := congrArg Int64.toInt h
    rw [n64_toInt ha, n64_toInt hb] at this
    omega
  · intro h; rw [h]
theorem n64_lt {a b : Nat} (ha : a < 9223372036854775808) (hb : b < 9223372036854775808) : n64 a < n64 b ↔ a < b := by
  rw [Int64.lt_iff_toInt_lt, n64_toInt ha, n64_toInt hb]; omega
/-- comparisons of longs -/
theorem lg_gt {a b : Int64} : 0 < lg_cmp a b ↔ b < a := by
  unfold lg_cmp
  by_cases h : a > b
  · rw [if_pos h]; exact ⟨fun _ => h, fun _ => by decide⟩
  · rw [if_neg h]
    by_cases e : a = b
    · rw [if_pos e]; exact ⟨fun q => absurd q (by decide), fun q => absurd q h⟩
    · rw [if_neg e]; exact ⟨fun q => absurd q (by decide), fun q => absurd q h⟩
theorem lg_le {a b : Int64} : lg_cmp a b ≤ 0 ↔ ¬ b < a := by
  rw [← lg_gt, Int32.not_lt]
theorem lg_ge {a b : Int64} : 0 ≤ lg_cmp a b ↔ ¬ a < b := by
  unfold lg_cmp
  by_cases h : a > b
  · rw [if_pos h]; exact ⟨fun _ q => absurd (Int64.lt_trans h q) (Int64.lt_irrefl), fun _ => by decide⟩
  · rw [if_neg h]
    by_cases e : a = b
    · rw [if_pos e]; exact ⟨fun _ q => by subst e; exact Int64.lt_irrefl q, fun _ => by decide⟩
    · rw [if_neg e]
      refine ⟨fun q => absurd q (by decide), fun q => ?_⟩
      exfalso
      have h1 : a.toInt ≤ b.toInt := by have := Int64.not_lt.mp h; exact Int64.le_iff_toInt_le.mp this
      have h2 : b.toInt ≤ a.toInt := by have := Int64.not_lt.mp q; exact Int64.le_iff_toInt_le.mp this
      exact e (Int64.toInt_inj.mp (by omega))
theorem nI_i64 {n : Nat} (h : n < 2147483648) : (nI n).toInt64 = n64 n := by
  apply Int64.toInt_inj.mp
  rw [n64_toInt (by omega), Int32.toInt_toInt64, bI_toInt h]
theorem n64_i32 (n : Nat) : (n64 n).toInt32 = nI n := Int64.toInt32_ofNat' 
theorem n64_shl {n : Nat} (h : n < 140737488355328) : n64 n <<< (((16 : Int32)).toInt64 &&& 63) = n64 (n * 65536) := by
  apply Int64.toBitVec_inj.mp
  have e : (n64 n <<< (((16 : Int32)).toInt64 &&& 63)).toBitVec = (n64 n).toBitVec <<< 16 := rfl
  rw [e]
  apply BitVec.eq_of_toNat_eq
  have e2 : ∀ k : Nat, k < 18446744073709551616 → (n64 k).toBitVec.toNat = k := fun k hk => by
    show (Int64.ofNat k).toBitVec.toNat = k
    rw [Int64.toBitVec_ofNat', BitVec.toNat_ofNat]; omega
  rw [BitVec.toNat_shiftLeft, Nat.shiftLeft_eq, e2 n (by omega), e2 _ (by omega)]
  omega
/-! bytes -/
theorem byte_cases {x : Int32} (h : nB x = x) : (0 ≤ x ∧ x ≤ 127 ∧ x &&& 255 = x) ∨ (x < 0 ∧ 128 ≤ x &&& 255) := by
  have aux : ∀ y : BitVec 8, (0 ≤ (Int8.ofBitVec y).toInt32 ∧ (Int8.ofBitVec y).toInt32 ≤ 127 ∧ (Int8.ofBitVec y).toInt32 &&& 255 = (Int8.ofBitVec y).toInt32) ∨ ((Int8.ofBitVec y).toInt32 < 0 ∧ 128 ≤ (Int8.ofBitVec y).toInt32 &&& 255) := by decide +kernel
  have e : x = (Int8.ofBitVec x.toInt8.toBitVec).toInt32 := h.symm
  rw [e]
  exact aux _
def isLt (c : Int32) : Prop := 97 ≤ c ∧ c ≤ 122
def isDt (c : Int32) : Prop := 48 ≤ c ∧ c ≤ 57
def isWt (c : Int32) : Prop := c = 32 ∨ c = 9 ∨ c = 10 ∨ c = 13
/-- a byte of a text, zero behind it -/
def cB (b : Nat → Int32) (len k : Nat) : Int32 := if k < len then b k else 0
def FN (P : Nat → Prop) (p q : Nat) : Prop := p ≤ q ∧ (∀ r, p ≤ r → r < q → P r) ∧ ¬ P q
theorem FN.uniq {P : Nat → Prop} {p q q' : Nat} (h : FN P p q) (h' : FN P p q') : q = q' := by
  obtain ⟨a1, a2, a3⟩ := h
  obtain ⟨b1, b2, b3⟩ := h'
  rcases Nat.lt_trichotomy q q' with e | e | e
  · exact absurd (b2 q a1 e) a3
  · exact e
  · exact absurd (a2 q' b1 e) b3
/-- a decimal number -/
def dec (b : Nat → Int32) (p : Nat) : Nat → Nat
  | 0 => 0
  | n + 1 => 10 * dec b p n + (ix (b (p + n)) - 48)
def isKwB (b : Nat → Int32) (j p n : Nat) : Prop := n = klen j ∧ ∀ r, r < n → kb j r = b (p + r)
/-- the numeral at a place: where it ends, what it is, whether it is whole -/
def NumS (b : Nat → Int32) (len s e : Nat) (ok : Prop) (nu wh : Int32) : Prop := ∃ d1, FN (fun r => isDt (cB b len r)) s d1 ∧
  ((cB b len d1 = 46 ∧ isDt (cB b len (d1 + 1)) ∧ ∃ d2, FN (fun r => isDt (cB b len r)) (d1 + 1) d2 ∧ (ok ↔ d1 - s ≤ 5 ∧ d2 - (d1 + 1) ≤ 4 ∧ (dec b s (d1 - s) < 32767 ∨ dec b s (d1 - s) = 32767 ∧ dec b (d1 + 1) (d2 - (d1 + 1)) = 0)) ∧ (ok → e = d2 ∧ wh = 0 ∧ nu = nI (dec b s (d1 - s) * 65536 + dec b (d1 + 1) (d2 - (d1 + 1)) * 65536 / 10 ^ (d2 - (d1 + 1))))) ∨
   (¬ (cB b len d1 = 46 ∧ isDt (cB b len (d1 + 1))) ∧ (ok ↔ d1 - s ≤ 5 ∧ dec b s (d1 - s) ≤ 32767) ∧ (ok → e = d1 ∧ wh = 1 ∧ nu = nI (dec b s (d1 - s) * 65536))))
def isTwo (c d : Int32) : Prop := (c = 60 ∧ (d = 61 ∨ d = 62)) ∨ (c = 62 ∧ d = 61) ∨ (c = 61 ∧ d = 61)
def isSg (c : Int32) : Prop := c = 44 ∨ c = 59 ∨ c = 46 ∨ c = 40 ∨ c = 41 ∨ c = 91 ∨ c = 93 ∨ c = 43 ∨ c = 45 ∨ c = 42 ∨ c = 47 ∨ c = 61 ∨ c = 58 ∨ c = 60 ∨ c = 62
/-- the token behind a place: it begins at s, ends at e; 0 the end, 1 a word, 2 a numeral, 3 a sign, 4 none -/
def TokS (b : Nat → Int32) (len p s e kd : Nat) (wd : Int64) (sg nu wh : Int32) : Prop := FN (fun r => r < len ∧ isWt (b r)) p s ∧ s ≤ len ∧
  ((s = len ∧ kd = 0 ∧ e = len) ∨
   (s < len ∧ isLt (b s) ∧ ∃ q, FN (fun r => chOK (cB b len r)) s q ∧ ((∃ j, j < 38 ∧ isKwB b j s (q - s) ∧ kd = 1 ∧ e = q ∧ wd = kco j) ∨ ((∀ j, j < 38 → ¬ isKwB b j s (q - s)) ∧ ((q - s ≤ 8 ∧ kd = 1 ∧ e = q ∧ wd = pk b s (q - s)) ∨ (8 < q - s ∧ kd = 4))))) ∨
   (s < len ∧ isDt (b s) ∧ (kd = 2 ∨ kd = 4) ∧ NumS b len s e (kd = 2) nu wh) ∨
   (s < len ∧ ¬ isLt (b s) ∧ ¬ isDt (b s) ∧ ((isTwo (b s) (cB b len (s + 1)) ∧ kd = 3 ∧ e = s + 2 ∧ sg = 256 * b s + cB b len (s + 1)) ∨ (¬ isTwo (b s) (cB b len (s + 1)) ∧ isSg (b s) ∧ kd = 3 ∧ e = s + 1 ∧ sg = b s) ∨ (¬ isSg (b s) ∧ kd = 4))))
