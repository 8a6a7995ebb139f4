/-! Layer B: one number, both sides -/
set_option maxRecDepth 100000
/-- the twin's operations of one number -/
def tOne (op a : Int32) (σ : TS) : Option (Int32 × TS) := if op = 7 then some (-a, σ) else if op = 10 then (if 0 ≤ a then some (a, σ) else some (-a, σ)) else if op = 11 then F_root a σ else if op = 12 then (if 0 ≤ a then if a ≤ 0 then some (0, σ) else some (65536, σ) else some ((-65536), σ)) else F_fit (a.toInt64 &&& (-65536)) σ
section ONE
variable {M : CM} {σ : TS} {a b op : Int32} {x : Int64}
theorem b_mask (x : BitVec 32) : x &&& 0xFFFF0000#32 = (x >>> 16) <<< 16 := by
  apply BitVec.eq_of_getLsbD_eq
  intro i hi
  rw [BitVec.getLsbD_and, BitVec.getLsbD_shiftLeft, BitVec.getLsbD_ushiftRight]
  have k : ∀ i, i < 32 → (0xFFFF0000#32).getLsbD i = decide (16 ≤ i) := by decide
  rw [k i hi]
  by_cases q : 16 ≤ i
  · have e : 16 + (i - 16) = i := by omega
    rw [e]
    simp [q, hi]
  · simp [q, hi]
theorem mask_min (a : Int32) : a &&& (-65536) = -2147483648 ↔ a < -2147418112 := by
  have e : (a &&& (-65536)).toBitVec = (a.toBitVec >>> 16) <<< 16 := b_mask a.toBitVec
  have n1 : ((a.toBitVec >>> 16) <<< 16).toNat = a.toBitVec.toNat / 65536 * 65536 := by
    have hl := a.toBitVec.isLt
    rw [BitVec.toNat_shiftLeft, BitVec.toNat_ushiftRight, Nat.shiftRight_eq_div_pow, Nat.shiftLeft_eq]
    omega
  have i1 : a.toInt = if 2 * a.toBitVec.toNat < 4294967296 then (a.toBitVec.toNat : Int) else (a.toBitVec.toNat : Int) - 4294967296 := BitVec.toInt_eq_toNat_cond a.toBitVec
  have hl := a.toBitVec.isLt
  have c1 : (-2147418112 : Int32).toInt = -2147418112 := by decide
  rw [Int32.lt_iff_toInt_lt, c1, i1]
  constructor
  · intro h
    have h2 := congrArg (fun z : Int32 => z.toBitVec.toNat) h
    have h3 : (a &&& (-65536)).toBitVec.toNat = 2147483648 := h2
    rw [e, n1] at h3
    rw [if_neg (by omega)]
    omega
  · intro h
    apply Int32.toBitVec_inj.mp
    apply BitVec.eq_of_toNat_eq
    show (a &&& (-65536)).toBitVec.toNat = 2147483648
    rw [e, n1]
    by_cases q : 2 * a.toBitVec.toNat < 4294967296
    · rw [if_pos q] at h; omega
    · rw [if_neg q] at h; omega
theorem n_floor (hc : mn M ≤ 601024 ∧ ms M + 8 ≤ 7293034) (hn : mn M ≠ 0) (h0 : tI σ 0 = 0) : NuO M σ (if a < (-2147418112) then K_X19_in (-2147483648) M else some (.inl (a &&& (-65536)), M)) (F_fit (a.toInt64 &&& (-65536)) σ) := by
  have e1 : a.toInt64 &&& (-65536) = (a &&& (-65536)).toInt64 := by rw [Int32.toInt64_and]; rfl
  rw [e1]
  obtain ⟨z, hz⟩ : ∃ z, z = a &&& (-65536) := ⟨_, rfl⟩
  have mm := mask_min a
  rw [← hz] at mm ⊢
  have hlt := Int32.toInt_lt z
  have hle := Int32.le_toInt z
  unfold F_fit
  have g : ¬ 0 < lg_cmp z.toInt64 2147483647 := fun q => by
    rw [lg_gt, Int64.lt_iff_toInt_lt, Int32.toInt_toInt64] at q
    have : (2147483647 : Int64).toInt = 2147483647 := by decide
    omega
  have l : 0 ≤ lg_cmp z.toInt64 (-2147483647) ↔ ¬ z = -2147483648 := by
    rw [lg_ge, Int64.lt_iff_toInt_lt, Int32.toInt_toInt64]
    have c1 : (-2147483647 : Int64).toInt = -2147483647 := by decide
    have c2 : (-2147483648 : Int32).toInt = -2147483648 := by decide
    rw [c1]
    constructor
    · intro q w; rw [w, c2] at q; omega
    · intro q w; exact q (Int32.toInt_inj.mp (by rw [c2]; omega))
  rw [ifF g]
  by_cases q : a < (-2147418112)
  · rw [ifT q, ifF (fun w => l.mp w (mm.mpr q)), t_badT h0, ob_some]
    unfold K_X19_in
    rw [ifF (by decide), ifF (by decide), k_wrong hc hn, ob_some, ifT (wM_k M 41 0)]
    exact Or.inl ⟨41, by decide, rfl, rfl⟩
  · rw [ifF q, ifT (l.mpr (fun w => q (mm.mp w)))]
    exact Or.inr ⟨z, rfl, by rw [Int32.toInt32_toInt64]⟩
theorem n_one {op' : Int32} (hc : mn M ≤ 601024 ∧ ms M + 8 ≤ 7293034) (hn : mn M ≠ 0) (h0 : tI σ 0 = 0) (ho : (op, op') ∈ unF) : NuO M σ (K_X0_one op a M) (tOne op' a σ) := by
  unfold K_X0_one tOne K_X19_sign
  simp only [obS_id]
  simp only [List.mem_cons, List.not_mem_nil, or_false, Prod.mk.injEq] at ho
  rcases ho with ⟨rfl, rfl⟩ | ⟨rfl, rfl⟩ | ⟨rfl, rfl⟩ | ⟨rfl, rfl⟩ | ⟨rfl, rfl⟩
  · rw [ifT (rfl : (7 : Int32) = 7), ifT (rfl : (7 : Int32) = 7)]; exact Or.inr ⟨_, rfl, rfl⟩
  · rw [ifF (show ¬ (8 : Int32) = 7 by decide), ifT (rfl : (8 : Int32) = 8), ifF (show ¬ (10 : Int32) = 7 by decide), ifT (rfl : (10 : Int32) = 10)]
    by_cases q : 0 ≤ a
    · rw [ifT q, ifT q]; exact Or.inr ⟨_, rfl, rfl⟩
    · rw [ifF q, ifF q]; exact Or.inr ⟨_, rfl, rfl⟩
  · rw [ifF (show ¬ (9 : Int32) = 7 by decide), ifF (show ¬ (9 : Int32) = 8 by decide), ifT (rfl : (9 : Int32) = 9), ifF (show ¬ (11 : Int32) = 7 by decide), ifF (show ¬ (11 : Int32) = 10 by decide), ifT (rfl : (11 : Int32) = 11)]; exact n_root hc hn h0
  · rw [ifF (show ¬ (12 : Int32) = 7 by decide), ifF (show ¬ (12 : Int32) = 8 by decide), ifF (show ¬ (12 : Int32) = 9 by decide), ifF (show ¬ (12 : Int32) = 10 by decide), ifF (show ¬ (12 : Int32) = 11 by decide), ifT (rfl : (12 : Int32) = 12), ifF (show ¬ (12 : Int32) = 7 by decide), ifF (show ¬ (12 : Int32) = 10 by decide), ifF (show ¬ (12 : Int32) = 11 by decide), ifT (rfl : (12 : Int32) = 12)]
    by_cases q : a ≤ 0
    · by_cases q2 : 0 ≤ a
      · rw [ifT q, ifT q2, ifT q2, ifT q, ob_some]; exact Or.inr ⟨_, rfl, rfl⟩
      · rw [ifT q, ifF q2, ifF q2, ob_some]; exact Or.inr ⟨_, rfl, rfl⟩
    · have q2 : 0 ≤ a := Int32.le_of_lt (Int32.not_le.mp q)
      rw [ifF q, ifT q2, ifF q, ob_some]; exact Or.inr ⟨_, rfl, rfl⟩
  · rw [ifF (show ¬ (13 : Int32) = 7 by decide), ifF (show ¬ (13 : Int32) = 8 by decide), ifF (show ¬ (13 : Int32) = 9 by decide), ifF (show ¬ (13 : Int32) = 10 by decide), ifF (show ¬ (13 : Int32) = 11 by decide), ifF (show ¬ (13 : Int32) = 12 by decide), ifF (show ¬ (13 : Int32) = 7 by decide), ifF (show ¬ (13 : Int32) = 10 by decide), ifF (show ¬ (13 : Int32) = 11 by decide), ifF (show ¬ (13 : Int32) = 12 by decide)]; exact n_floor hc hn h0
end ONE
