/-! Layer B: arithmetic, both sides -/
set_option maxRecDepth 100000
/-- a number or a fault of both sides -/
def NuO (M : CM) (σ : TS) (k : Option ((Int32 ⊕ Nat) × CM)) (t : Option (Int32 × TS)) : Prop := (∃ r, r ≠ 0 ∧ k = some (.inr (mn M), wM M r 0) ∧ t = some (0, badT σ r)) ∨ ∃ v, k = some (.inl v, M) ∧ t = some (v, σ)
section NUMS
variable {M : CM} {σ : TS} {a b op : Int32} {x : Int64}
theorem n_in (hc : mn M ≤ 601024 ∧ ms M + 8 ≤ 7293034) (hn : mn M ≠ 0) (h0 : tI σ 0 = 0) : NuO M σ (K_X19_in x M) (F_fit x σ) := by
  unfold K_X19_in F_fit
  by_cases q : 0 < lg_cmp x 2147483647
  · rw [ifT q, ifT q, k_wrong hc hn, ob_some, ifT (wM_k M 41 0), t_badT h0, ob_some]
    exact Or.inl ⟨41, by decide, rfl, rfl⟩
  · rw [ifF q, ifF q]
    by_cases q2 : 0 ≤ lg_cmp x (-2147483647)
    · rw [ifT q2, ifT q2]
      exact Or.inr ⟨_, rfl, rfl⟩
    · rw [ifF q2, ifF q2, k_wrong hc hn, ob_some, ifT (wM_k M 41 0), t_badT h0, ob_some]
      exact Or.inl ⟨41, by decide, rfl, rfl⟩
theorem obS_idI {α : Type} (A : Option ((α ⊕ Nat) × CM)) : obS A (fun w M => some (.inr w, M)) (fun r M => some (.inl r, M)) = A := obS_id A
theorem n_times (hc : mn M ≤ 601024 ∧ ms M + 8 ≤ 7293034) (hn : mn M ≠ 0) (h0 : tI σ 0 = 0) : NuO M σ (K_X19_times a b M) (F_times a b σ) := by
  unfold K_X19_times F_times
  rw [obS_id, ob_id]
  exact n_in hc hn h0
theorem n_over (hc : mn M ≤ 601024 ∧ ms M + 8 ≤ 7293034) (hn : mn M ≠ 0) (h0 : tI σ 0 = 0) : NuO M σ (K_X19_over a b M) (F_over a b σ) := by
  unfold K_X19_over F_over
  by_cases q : b = 0
  · rw [ifT q, ifT q, k_wrong hc hn, ob_some, ifT (wM_k M 40 0), t_badT h0, ob_some]
    exact Or.inl ⟨40, by decide, rfl, rfl⟩
  · have q2 : ¬ b.toInt64 = 0 := fun z => q (by
      apply Int32.toInt_inj.mp
      have := congrArg Int64.toInt z
      rw [Int32.toInt_toInt64] at this
      exact this)
    rw [ifF q, ifF q, ifT q2, ifT q2, obS_id, ob_id]
    exact n_in hc hn h0
/-- the twin's four operations of a chain -/
def tTwo (op : Int32) (a b : Int32) (σ : TS) : Option (Int32 × TS) := if op = 5 then F_fit (a.toInt64 + b.toInt64) σ else if op = 6 then F_fit (a.toInt64 - b.toInt64) σ else if op = 8 then F_times a b σ else F_over a b σ
theorem n_two {op' : Int32} (hc : mn M ≤ 601024 ∧ ms M + 8 ≤ 7293034) (hn : mn M ≠ 0) (h0 : tI σ 0 = 0) (ho : (op, op') = (3, 5) ∨ (op, op') = (4, 6) ∨ (op, op') = (5, 8) ∨ (op, op') = (6, 9)) : NuO M σ (K_X0_two op a b M) (tTwo op' a b σ) := by
  unfold K_X0_two tTwo
  simp only [obS_id]
  rcases ho with h | h | h | h <;> obtain ⟨rfl, rfl⟩ := Prod.mk.inj h
  · rw [ifT (rfl : (3 : Int32) = 3), ifT (rfl : (5 : Int32) = 5)]; exact n_in hc hn h0
  · rw [ifF (show ¬ (4 : Int32) = 3 by decide), ifT (rfl : (4 : Int32) = 4), ifF (show ¬ (6 : Int32) = 5 by decide), ifT (rfl : (6 : Int32) = 6)]; exact n_in hc hn h0
  · rw [ifF (show ¬ (5 : Int32) = 3 by decide), ifF (show ¬ (5 : Int32) = 4 by decide), ifT (rfl : (5 : Int32) = 5), ifF (show ¬ (8 : Int32) = 5 by decide), ifF (show ¬ (8 : Int32) = 6 by decide), ifT (rfl : (8 : Int32) = 8)]; exact n_times hc hn h0
  · rw [ifF (show ¬ (6 : Int32) = 3 by decide), ifF (show ¬ (6 : Int32) = 4 by decide), ifF (show ¬ (6 : Int32) = 5 by decide), ifT (rfl : (6 : Int32) = 6), ifF (show ¬ (9 : Int32) = 5 by decide), ifF (show ¬ (9 : Int32) = 6 by decide), ifF (show ¬ (9 : Int32) = 8 by decide)]; exact n_over hc hn h0
theorem n_min : K_X0_two 10 a b M = some (.inl (mmin a b), M) := by
  unfold K_X0_two mmin
  rw [ifF (by decide), ifF (by decide), ifF (by decide), ifF (by decide), ifF (by decide), ifF (by decide), ifF (by decide), ifT rfl]
  by_cases q : b ≤ a
  · rw [ifT q]
    by_cases q2 : b < a
    · rw [ifT q2]
    · rw [ifF q2]
      have h1 := Int32.le_iff_toInt_le.mp q
      have h2 : ¬ b.toInt < a.toInt := fun z => q2 (Int32.lt_iff_toInt_lt.mpr z)
      rw [Int32.toInt_inj.mp (show b.toInt = a.toInt by omega)]
  · rw [ifF q, ifF (fun z => q (Int32.le_of_lt z))]
theorem n_max : K_X0_two 11 a b M = some (.inl (mmax a b), M) := by
  unfold K_X0_two mmax
  rw [ifF (by decide), ifF (by decide), ifF (by decide), ifF (by decide), ifF (by decide), ifF (by decide), ifF (by decide), ifF (by decide)]
  by_cases q : a ≤ b
  · rw [ifT q]
    by_cases q2 : a < b
    · rw [ifT q2]
    · rw [ifF q2]
      have h1 := Int32.le_iff_toInt_le.mp q
      have h2 : ¬ a.toInt < b.toInt := fun z => q2 (Int32.lt_iff_toInt_lt.mpr z)
      rw [Int32.toInt_inj.mp (show b.toInt = a.toInt by omega)]
  · rw [ifF q, ifF (fun z => q (Int32.le_of_lt z))]
/-- comparing -/
theorem n_cmp {tok : Int32} (ho : (op, tok) ∈ rlF) : ∃ r, (r = 0 ∨ r = 1) ∧ K_X0_compare op a b M = some (r, M) ∧ F_compare tok a b σ = some (r, σ) := by
  have two : ∀ (c : Prop) [Decidable c] (u v : Int32), (u = 0 ∨ u = 1) → (v = 0 ∨ v = 1) → ∃ r, (r = 0 ∨ r = 1) ∧ (if c then some (u, M) else some (v, M)) = some (r, M) ∧ (if c then some (u, σ) else some (v, σ)) = some (r, σ) := fun c _ u v hu hv => by
    by_cases q : c
    · exact ⟨u, hu, ifT q, ifT q⟩
    · exact ⟨v, hv, ifF q, ifF q⟩
  simp only [List.mem_cons, List.not_mem_nil, or_false, Prod.mk.injEq] at ho
  rcases ho with ⟨rfl, rfl⟩ | ⟨rfl, rfl⟩ | ⟨rfl, rfl⟩ | ⟨rfl, rfl⟩ | ⟨rfl, rfl⟩ | ⟨rfl, rfl⟩
  · exact two (b ≤ a) 0 1 (Or.inl rfl) (Or.inr rfl)
  · exact two (a ≤ b) 0 1 (Or.inl rfl) (Or.inr rfl)
  · exact two (b < a) 0 1 (Or.inl rfl) (Or.inr rfl)
  · exact two (a < b) 0 1 (Or.inl rfl) (Or.inr rfl)
  · exact two (a = b) 1 0 (Or.inr rfl) (Or.inl rfl)
  · exact two (a = b) 0 1 (Or.inl rfl) (Or.inr rfl)
/-- the square root, by halves -/
theorem k_rootL (X : Nat) (hX : X < 281474976710656) : ∀ (d lo hi f : Nat), hi - lo ≤ d → d < f → lo < hi → hi ≤ 16777216 → lo * lo ≤ X → X < hi * hi → ∃ r, KL_X19_root_24 f (n64 X) (n64 lo) (n64 hi) M = some (n64 r, M) ∧ r * r ≤ X ∧ X < (r + 1) * (r + 1) ∧ r < 16777216 := by
  intro d
  induction d with
  | zero => intro lo hi f h1 _ h3; omega
  | succ d ih =>
    intro lo hi f h1 h2 h3 h4 h5 h6
    obtain ⟨f, rfl⟩ : ∃ g, f = g + 1 := ⟨f - 1, by omega⟩
    have e1 : n64 hi - n64 lo = n64 (hi - lo) := n64_sub (by omega)
    have e2 : lg_cmp (n64 (hi - lo)) 1 ≤ 0 ↔ hi - lo ≤ 1 := by
      rw [lg_le, show (1 : Int64) = n64 1 from rfl, n64_lt (by decide) (by omega)]; omega
    rw [KL_X19_root_24, e1]
    by_cases q : hi - lo ≤ 1
    · rw [ifT (e2.mpr q)]
      exact ⟨lo, rfl, h5, by rw [show lo + 1 = hi by omega]; exact h6, by omega⟩
    · rw [ifF (fun z => q (e2.mp z)), nm_eq, n64_add, show (2 : Int64) = n64 2 from rfl, n64_div (by omega) (by decide), n64_mul]
      have hm : (lo + hi) / 2 < hi := by omega
      have hm2 : lo < (lo + hi) / 2 := by omega
      have hb : (lo + hi) / 2 * ((lo + hi) / 2) < 281474976710656 := by
        have := Nat.mul_le_mul (show (lo + hi) / 2 ≤ 16777215 by omega) (show (lo + hi) / 2 ≤ 16777215 by omega)
        omega
      have e3 : 0 < lg_cmp (n64 ((lo + hi) / 2 * ((lo + hi) / 2))) (n64 X) ↔ X < (lo + hi) / 2 * ((lo + hi) / 2) := by
        rw [lg_gt, n64_lt (by omega) (by omega)]
      by_cases q2 : X < (lo + hi) / 2 * ((lo + hi) / 2)
      · rw [ifT (e3.mpr q2)]
        exact ih lo _ f (by omega) (by omega) hm2 (by omega) h5 q2
      · rw [ifF (fun z => q2 (e3.mp z))]
        exact ih _ hi f (by omega) (by omega) hm h4 (by omega) h6
theorem n64_shr1 {n : Nat} (h : n < 9223372036854775808) : n64 n >>> (((1 : Int32)).toInt64 &&& 63) = n64 (n / 2) := by
  apply Int64.toBitVec_inj.mp
  have e : (n64 n >>> (((1 : Int32)).toInt64 &&& 63)).toBitVec = (n64 n).toBitVec.sshiftRight 1 := rfl
  have e2 : ∀ k : Nat, k < 18446744073709551616 → (n64 k).toBitVec.toNat = k := fun k hk => by
    show (BitVec.ofNat 64 k).toNat = k
    rw [BitVec.toNat_ofNat]; omega
  rw [e]
  apply BitVec.eq_of_toNat_eq
  have m : (n64 n).toBitVec.msb = false := by
    rw [BitVec.msb_eq_false_iff_two_mul_lt, e2 n (by omega)]; omega
  rw [BitVec.sshiftRight_eq_of_msb_false m, BitVec.toNat_ushiftRight, e2 n (by omega), e2 (n / 2) (by omega), Nat.shiftRight_eq_div_pow]
theorem t_rootL (X : Nat) (hX : X < 281474976710656) : ∀ (d lo hi f : Nat), hi - lo ≤ d → d < f → lo < hi → hi ≤ 16777216 → lo * lo ≤ X → X < hi * hi → ∃ r, L_root_27 f (n64 X) (n64 lo) (n64 hi) σ = some (n64 r, σ) ∧ r * r ≤ X ∧ X < (r + 1) * (r + 1) ∧ r < 16777216 := by
  intro d
  induction d with
  | zero => intro lo hi f h1 _ h3; omega
  | succ d ih =>
    intro lo hi f h1 h2 h3 h4 h5 h6
    obtain ⟨f, rfl⟩ : ∃ g, f = g + 1 := ⟨f - 1, by omega⟩
    have e1 : n64 hi - n64 lo = n64 (hi - lo) := n64_sub (by omega)
    have e2 : lg_cmp (n64 (hi - lo)) 1 ≤ 0 ↔ hi - lo ≤ 1 := by
      rw [lg_le, show (1 : Int64) = n64 1 from rfl, n64_lt (by decide) (by omega)]; omega
    rw [L_root_27, e1]
    by_cases q : hi - lo ≤ 1
    · rw [ifT (e2.mpr q)]
      exact ⟨lo, rfl, h5, by rw [show lo + 1 = hi by omega]; exact h6, by omega⟩
    · rw [ifF (fun z => q (e2.mp z)), nm_eq, n64_add, n64_shr1 (by omega), n64_mul]
      have hm : (lo + hi) / 2 < hi := by omega
      have hm2 : lo < (lo + hi) / 2 := by omega
      have hb : (lo + hi) / 2 * ((lo + hi) / 2) < 281474976710656 := by
        have := Nat.mul_le_mul (show (lo + hi) / 2 ≤ 16777215 by omega) (show (lo + hi) / 2 ≤ 16777215 by omega)
        omega
      have e3 : 0 < lg_cmp (n64 ((lo + hi) / 2 * ((lo + hi) / 2))) (n64 X) ↔ X < (lo + hi) / 2 * ((lo + hi) / 2) := by
        rw [lg_gt, n64_lt (by omega) (by omega)]
      by_cases q2 : X < (lo + hi) / 2 * ((lo + hi) / 2)
      · rw [ifT (e3.mpr q2)]
        exact ih lo _ f (by omega) (by omega) hm2 (by omega) h5 q2
      · rw [ifF (fun z => q2 (e3.mp z))]
        exact ih _ hi f (by omega) (by omega) hm h4 (by omega) h6
theorem root_uq {X r r' : Nat} (h1 : r * r ≤ X) (h2 : X < (r + 1) * (r + 1)) (h3 : r' * r' ≤ X) (h4 : X < (r' + 1) * (r' + 1)) : r = r' := by
  have a : r' < r + 1 := Nat.lt_of_not_le (fun z => by
    have := Nat.mul_le_mul z z; omega)
  have b : r < r' + 1 := Nat.lt_of_not_le (fun z => by
    have := Nat.mul_le_mul z z; omega)
  omega
theorem n_root (hc : mn M ≤ 601024 ∧ ms M + 8 ≤ 7293034) (hn : mn M ≠ 0) (h0 : tI σ 0 = 0) : NuO M σ (K_X19_root a M) (F_root a σ) := by
  have fu : 16777217 ≤ FU := by unfold FU; decide
  unfold K_X19_root F_root
  by_cases q : 0 ≤ a
  · have h1 := Int32.le_iff_toInt_le.mp q
    have h2 : (0 : Int32).toInt = 0 := rfl
    have hlt := Int32.toInt_lt a
    obtain ⟨A, hA, hA2⟩ : ∃ A, a = nI A ∧ A < 2147483648 := ⟨a.toInt.toNat, by
      apply Int32.toInt_inj.mp
      rw [bI_toInt (by omega)]; omega, by omega⟩
    rw [ifT q, ifT q, hA, nI_i64 hA2, n64_shl (by omega), nm_eq, nm_eq, show (0 : Int64) = n64 0 from rfl, show (11863284 : Int64) = n64 11863284 from rfl, show (16777216 : Int64) = n64 16777216 from rfl]
    obtain ⟨r, b1, b2, b3, b4⟩ := k_rootL (M := M) (A * 65536) (by omega) 11863284 0 11863284 FU (by decide) (by omega) (by decide) (by decide) (by omega) (by omega)
    obtain ⟨r', c1, c2, c3, c4⟩ := t_rootL (σ := σ) (A * 65536) (by omega) 16777216 0 16777216 FU (by decide) (by omega) (by decide) (by decide) (by omega) (by omega)
    have e := root_uq b2 b3 c2 c3
    subst e
    rw [b1, ob_some, c1, ob_some]
    unfold F_fit
    rw [ifF (show ¬ 0 < lg_cmp (n64 r) 2147483647 from fun z => by
      rw [lg_gt, show (2147483647 : Int64) = n64 2147483647 from rfl, n64_lt (by decide) (by omega)] at z; omega), ifT (show 0 ≤ lg_cmp (n64 r) (-2147483647) from by
      rw [lg_ge, Int64.lt_iff_toInt_lt, n64_toInt (by omega)]
      have : (-2147483647 : Int64).toInt = -2147483647 := by decide
      omega), ob_some]
    exact Or.inr ⟨_, rfl, rfl⟩
  · rw [ifF q, ifF q, k_wrong hc hn, ob_some, ifT (wM_k M 42 0), t_badT h0, ob_some]
    exact Or.inl ⟨42, by decide, rfl, rfl⟩
end NUMS
