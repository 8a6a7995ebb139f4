/-! Layer B: words packed into longs -/
set_option maxRecDepth 100000
def u64 (v : Int64) : Nat := v.toBitVec.toNat
theorem u64_lt (v : Int64) : u64 v < 18446744073709551616 := v.toBitVec.isLt
theorem u64_inj {v w : Int64} (h : u64 v = u64 w) : v = w := Int64.toBitVec_inj.mp (BitVec.eq_of_toNat_eq h)
theorem u64_0 : u64 0 = 0 := rfl
def by8 (x : Int32) : Nat := ix (x &&& 255)
theorem and255_bv (x : Int32) : (x &&& 255).toBitVec = x.toBitVec &&& 255#32 := by rw [Int32.toBitVec_and]; rfl
theorem and255_lt (x : Int32) : (x &&& 255).toBitVec.toNat < 256 := by
  rw [and255_bv, BitVec.toNat_and]
  exact Nat.lt_of_le_of_lt Nat.and_le_right (by decide)
theorem and255_int (x : Int32) : (x &&& 255).toInt = ((x &&& 255).toBitVec.toNat : Int) := by
  have h := and255_lt x
  rw [← Int32.toInt_toBitVec, BitVec.toInt_eq_toNat_of_lt (by omega)]
theorem by8_eq (x : Int32) : by8 x = (x &&& 255).toBitVec.toNat := by
  show (x &&& 255).toInt.toNat = _
  rw [and255_int]; rfl
theorem by8_lt (x : Int32) : by8 x < 256 := by rw [by8_eq]; exact and255_lt x
theorem and255_nI (x : Int32) : x &&& 255 = nI (by8 x) := by
  apply Int32.toInt_inj.mp
  rw [bI_toInt (by have := by8_lt x; omega), and255_int, by8_eq]
theorem u64_byte (x : Int32) : u64 ((x &&& 255).toInt64) = by8 x := by
  have h := and255_lt x
  unfold u64
  have hm : (x &&& 255).toBitVec.msb = false := by
    rw [BitVec.msb_eq_false_iff_two_mul_lt]; omega
  rw [by8_eq, Int32.toBitVec_toInt64, BitVec.signExtend_eq_setWidth_of_msb_false hm, BitVec.toNat_setWidth, Nat.mod_eq_of_lt (by omega)]
theorem u64_step (v : Int64) (x : Int32) : u64 ((v <<< (((8 : Int32)).toInt64 &&& 63)) ||| ((x &&& 255).toInt64)) = (u64 v * 256) % 18446744073709551616 + by8 x := by
  have h1 := u64_byte x
  have h2 := by8_lt x
  unfold u64 at *
  rw [Int64.toBitVec_or, BitVec.toNat_or, h1]
  have e : (v <<< (((8 : Int32)).toInt64 &&& 63)).toBitVec = v.toBitVec <<< 8 := rfl
  rw [e, BitVec.toNat_shiftLeft, Nat.shiftLeft_eq]
  generalize hq : v.toBitVec.toNat = q
  have e2 : q * 2 ^ 8 % 2 ^ 64 = (q % 2 ^ 56) <<< 8 := by rw [Nat.shiftLeft_eq]; omega
  rw [e2, ← Nat.shiftLeft_add_eq_or_of_lt (by omega : by8 x < 2 ^ 8), Nat.shiftLeft_eq]
  try omega
theorem u64_shr (v : Int64) : u64 (((v).toUInt64 >>> (((8 : Int32)).toInt64.toUInt64 &&& Int64.toUInt64 63)).toInt64) = u64 v / 256 := by
  unfold u64
  have e : (((v).toUInt64 >>> (((8 : Int32)).toInt64.toUInt64 &&& Int64.toUInt64 63)).toInt64).toBitVec = v.toBitVec >>> 8 := rfl
  rw [e, BitVec.toNat_ushiftRight, Nat.shiftRight_eq_div_pow]
def pk (b : Nat → Int32) (p : Nat) : Nat → Int64
  | 0 => 0
  | n + 1 => (pk b p n <<< (((8 : Int32)).toInt64 &&& 63)) ||| (((b (p + n)) &&& 255).toInt64)
def px (b : Nat → Int32) (p : Nat) : Nat → Nat
  | 0 => 0
  | n + 1 => px b p n * 256 + by8 (b (p + n))
theorem px_lt (b : Nat → Int32) (p : Nat) : ∀ n, px b p n < 256 ^ n
  | 0 => Nat.one_pos
  | n + 1 => by
    have h1 := px_lt b p n
    have h2 := by8_lt (b (p + n))
    show px b p n * 256 + by8 (b (p + n)) < 256 ^ n * 256
    omega
theorem u64_pk (b : Nat → Int32) (p : Nat) : ∀ n, n ≤ 8 → u64 (pk b p n) = px b p n
  | 0, _ => rfl
  | n + 1, h => by
    show u64 ((pk b p n <<< (((8 : Int32)).toInt64 &&& 63)) ||| (((b (p + n)) &&& 255).toInt64)) = px b p n * 256 + by8 (b (p + n))
    rw [u64_step, u64_pk b p n (by omega)]
    have h1 := px_lt b p n
    have h2 : 256 ^ n ≤ 256 ^ 7 := Nat.pow_le_pow_right (by decide) (by omega)
    have h3 : (256 : Nat) ^ 7 = 72057594037927936 := by decide
    rw [Nat.mod_eq_of_lt (by omega)]
/-- bytes that are no zeros are known from what they are packed to -/
theorem px_inj {b b' : Nat → Int32} {p p' : Nat} : ∀ n l, (∀ i, i < n → by8 (b (p + i)) ≠ 0) → (∀ i, i < l → by8 (b' (p' + i)) ≠ 0) → px b p n = px b' p' l → n = l ∧ ∀ i, i < n → by8 (b (p + i)) = by8 (b' (p' + i))
  | 0, 0, _, _, _ => ⟨rfl, fun i h => absurd h (Nat.not_lt_zero _)⟩
  | 0, l + 1, _, h2, h => by
    have h : 0 = px b' p' l * 256 + by8 (b' (p' + l)) := h
    exact absurd (by omega) (h2 l (Nat.lt_succ_self _))
  | n + 1, 0, h1, _, h => by
    have h : px b p n * 256 + by8 (b (p + n)) = 0 := h
    exact absurd (by omega) (h1 n (Nat.lt_succ_self _))
  | n + 1, l + 1, h1, h2, h => by
    have h : px b p n * 256 + by8 (b (p + n)) = px b' p' l * 256 + by8 (b' (p' + l)) := h
    have g1 := by8_lt (b (p + n))
    have g2 := by8_lt (b' (p' + l))
    obtain ⟨e, g⟩ := px_inj n l (fun i hi => h1 i (by omega)) (fun i hi => h2 i (by omega)) (by omega)
    subst e
    refine ⟨rfl, fun i hi => ?_⟩
    by_cases ei : i = n
    · subst ei; omega
    · exact g i (by omega)
/-- how many bytes -/
def dg : Nat → Nat → Nat
  | 0, _ => 0
  | f + 1, x => if x = 0 then 0 else dg f (x / 256) + 1
theorem dg_pow : ∀ f x, x < 256 ^ f → dg (f + 1) x = dg f x ∧ dg f x ≤ f
  | 0, x, h => by
    have : x = 0 := by simpa using h
    subst this
    exact ⟨rfl, Nat.le_refl _⟩
  | f + 1, x, h => by
    have h2 : x / 256 < 256 ^ f := by rw [Nat.div_lt_iff_lt_mul (by decide)]; exact h
    obtain ⟨g1, g2⟩ := dg_pow f (x / 256) h2
    by_cases e : x = 0
    · subst e; exact ⟨by simp [dg], by simp [dg]⟩
    · refine ⟨?_, ?_⟩
      · show (if x = 0 then 0 else dg (f + 1) (x / 256) + 1) = if x = 0 then 0 else dg f (x / 256) + 1
        rw [if_neg e, if_neg e, g1]
      · show (if x = 0 then 0 else dg f (x / 256) + 1) ≤ f + 1
        rw [if_neg e]; omega
theorem dg_px {b : Nat → Int32} {p : Nat} : ∀ n f, n ≤ f → (∀ i, i < n → by8 (b (p + i)) ≠ 0) → dg f (px b p n) = n
  | 0, f, _, _ => by cases f <;> simp [dg, px]
  | n + 1, f + 1, hf, h => by
    have g1 := by8_lt (b (p + n))
    have g2 := h n (Nat.lt_succ_self _)
    show (if px b p n * 256 + by8 (b (p + n)) = 0 then 0 else dg f ((px b p n * 256 + by8 (b (p + n))) / 256) + 1) = n + 1
    rw [if_neg (by omega), show (px b p n * 256 + by8 (b (p + n))) / 256 = px b p n by omega, dg_px n f (by omega) (fun i hi => h i (by omega))]
theorem lg_eq {a b : Int64} : lg_cmp a b = 0 ↔ a = b := by
  unfold lg_cmp
  by_cases h : a > b
  · rw [if_pos h]
    constructor
    · intro q; exact absurd q (by decide)
    · intro q; subst q; exact absurd h (Int64.lt_irrefl)
  · rw [if_neg h]
    by_cases e : a = b
    · rw [if_pos e]; exact ⟨fun _ => e, fun _ => rfl⟩
    · rw [if_neg e]
      exact ⟨fun q => absurd q (by decide), fun q => absurd q e⟩
theorem len_loop {M : CM} : ∀ (f n : Nat) (v : Int64) (g : Nat), u64 v < 256 ^ f → f < g → n + f < 2147483648 → KL_X1_length_17 g (nI n) v M = some (nI (n + dg f (u64 v)), M)
  | 0, n, v, g + 1, h, _, _ => by
    have e : v = 0 := u64_inj (by rw [u64_0]; simpa using h)
    subst e
    rw [KL_X1_length_17, ifT (lg_eq.mpr rfl)]
    rfl
  | f + 1, n, v, g + 1, h, hg, hn => by
    rw [KL_X1_length_17]
    by_cases e : v = 0
    · subst e
      rw [ifT (lg_eq.mpr rfl)]
      rfl
    · have e' : u64 v ≠ 0 := fun q => e (u64_inj (by rw [u64_0]; exact q))
      rw [ifF (fun q => e (lg_eq.mp q)), nm_eq, nm_eq, nI_addL, len_loop f (n + 1) _ g (by rw [u64_shr, Nat.div_lt_iff_lt_mul (by decide)]; exact h) (by omega) (by omega), u64_shr]
      show some (nI (n + 1 + dg f (u64 v / 256)), M) = some (nI (n + if u64 v = 0 then 0 else dg f (u64 v / 256) + 1), M)
      rw [if_neg e']
      congr 3
      omega
