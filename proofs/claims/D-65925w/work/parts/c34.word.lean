/-! Layer B: printing: words and numbers, both sides -/
set_option maxRecDepth 100000
def btx (x i : Nat) : Nat := x / 256 ^ i % 256
/-- letters of the lowest bytes, the highest first -/
def wls : Nat → Nat → List Int32
  | 0, _ => []
  | j + 1, x => if btx x j = 0 then wls j x else nI (btx x j) :: wls j x
/-- a word of n letters, packed to x -/
def WdX (v : Int64) (x n : Nat) : Prop := (v = n64 x ∧ u64 v = x) ∧ x < 9223372036854775808 ∧ (1 ≤ n ∧ n ≤ 8) ∧ x < 256 ^ n ∧ (∀ i, i < n → btx x i ≠ 0 ∧ btx x i < 128) ∧ dg 8 x = n
/-- digits -/
def dgl : Nat → Nat → List Int32
  | 0, n => [nI (48 + n % 10)]
  | k + 1, n => nI (48 + n / 10 ^ (k + 1) % 10) :: dgl k n
section WORD
variable {C : PC} {M M' M1 M2 : CM} {σ σ' σ1 σ2 : TS} {b : Nat → Int32} {v : Int64} {x n k f g m L p w : Nat} {x2 : Int32}
theorem ob_idk {X : Option (Unit × CM)} : (ob X fun _ M => some ((), M)) = X := by
  cases X with
  | none => rfl
  | some q => rfl
theorem btx_px (b : Nat → Int32) (p : Nat) : ∀ n i, i < n → btx (px b p n) i = by8 (b (p + (n - 1 - i)))
  | 0, _, h => absurd h (Nat.not_lt_zero _)
  | n + 1, 0, _ => by
    have := by8_lt (b (p + n))
    show (px b p n * 256 + by8 (b (p + n))) / 256 ^ 0 % 256 = by8 (b (p + (n + 1 - 1 - 0)))
    rw [Nat.pow_zero, Nat.div_one, show n + 1 - 1 - 0 = n by omega]
    omega
  | n + 1, i + 1, h => by
    have := by8_lt (b (p + n))
    have ih := btx_px b p n i (by omega)
    show (px b p n * 256 + by8 (b (p + n))) / 256 ^ (i + 1) % 256 = by8 (b (p + (n + 1 - 1 - (i + 1))))
    rw [show n + 1 - 1 - (i + 1) = n - 1 - i by omega, ← ih, Nat.pow_succ, Nat.mul_comm (256 ^ i) 256, ← Nat.div_div_eq_div_mul, show (px b p n * 256 + by8 (b (p + n))) / 256 = px b p n by omega]
    rfl
theorem nm_wd (h : nmOK v) : ∃ x n, WdX v x n := by
  obtain ⟨⟨n, b, n1, n2, hc, h0, rfl⟩, -⟩ := h
  have e := u64_pk b 0 n n2
  have lt := px_lt b 0 n
  have nz : ∀ i, i < n → by8 (b (0 + i)) ≠ 0 := fun i hi => by rw [Nat.zero_add]; exact (ch_by8 (hc i hi)).2.1
  have l63 : px b 0 n < 9223372036854775808 := by
    obtain ⟨m, rfl⟩ : ∃ m, n = m + 1 := ⟨n - 1, by omega⟩
    have h1 := px_hi b 0 m
    have h2 := (ch_by8 (hc 0 (by omega))).2.2.1
    have h3 : 256 ^ m ≤ 256 ^ 7 := Nat.pow_le_pow_right (by decide) (by omega)
    have h4 : (by8 (b 0) + 1) * 256 ^ m ≤ 123 * 256 ^ 7 := Nat.mul_le_mul (by omega) h3
    have h5 : (123 : Nat) * 256 ^ 7 = 8863084066665136128 := by decide
    omega
  refine ⟨px b 0 n, n, ⟨u64_inj (by rw [e]; exact (n64_nat (by omega)).symm), e⟩, l63, ⟨n1, n2⟩, lt, fun i hi => ?_, dg_px n 8 n2 nz⟩
  rw [btx_px b 0 n i hi]
  have := (ch_by8 (hc (0 + (n - 1 - i)) (by omega))).2.2.1
  exact ⟨nz _ (by omega), by rw [Nat.zero_add] at this ⊢; omega⟩
theorem lto_128 : ∀ b, b < 128 → LtO (nI b) := by decide +kernel
theorem wls_lt : ∀ (n : Nat), (∀ i, i < n → btx x i < 128) → ∀ c, c ∈ wls n x → LtO c
  | 0, _, c, hc => absurd hc List.not_mem_nil
  | n + 1, h, c, hc => by
    have hc : c ∈ if btx x n = 0 then wls n x else nI (btx x n) :: wls n x := hc
    by_cases q : btx x n = 0
    · rw [ifT q] at hc; exact wls_lt n (fun i hi => h i (by omega)) c hc
    · rw [ifF q] at hc
      rcases List.mem_cons.mp hc with e | e
      · rw [e]; exact lto_128 _ (h n (by omega))
      · exact wls_lt n (fun i hi => h i (by omega)) c e
theorem dgl_lt : ∀ (k n : Nat) (c : Int32), c ∈ dgl k n → LtO c
  | 0, n, c, hc => by
    have hc : c ∈ [nI (48 + n % 10)] := hc
    rw [List.mem_singleton.mp hc]; exact lto_128 _ (by omega)
  | k + 1, n, c, hc => by
    have hc : c ∈ nI (48 + n / 10 ^ (k + 1) % 10) :: dgl k n := hc
    rcases List.mem_cons.mp hc with e | e
    · rw [e]; exact lto_128 _ (by omega)
    · exact dgl_lt k n c e
theorem wls_cut (h : x < 256 ^ n) : ∀ d, wls (n + d) x = wls n x
  | 0 => rfl
  | d + 1 => by
    have h2 : 256 ^ n ≤ 256 ^ (n + d) := Nat.pow_le_pow_right (by decide) (by omega)
    show (if btx x (n + d) = 0 then wls (n + d) x else _) = _
    rw [ifT (show btx x (n + d) = 0 by unfold btx; rw [Nat.div_eq_of_lt (by omega)]), wls_cut h d]
theorem n64_and8 (h : n < 9223372036854775808) : n64 n &&& 255 = n64 (n % 256) := by
  apply Int64.toBitVec_inj.mp
  apply BitVec.eq_of_toNat_eq
  rw [Int64.toBitVec_and, BitVec.toNat_and, n64_nat (by omega), n64_nat (by omega)]
  show n &&& 255 = n % 256
  exact Nat.and_two_pow_sub_one_eq_mod n 8
theorem pow8 (j : Nat) : 2 ^ (8 * j) = 256 ^ j := by rw [Nat.pow_mul]
theorem t_byte (hx : x < 9223372036854775808) {j : Nat} (hj : j < 8) : (n64 x >>> ((nI (8 * j)).toInt64 &&& 63)) &&& 255 = n64 (btx x j) := by
  have e : n64 x >>> ((nI (8 * j)).toInt64 &&& 63) = n64 (x / 2 ^ (8 * j)) := by
    have : j = 0 ∨ j = 1 ∨ j = 2 ∨ j = 3 ∨ j = 4 ∨ j = 5 ∨ j = 6 ∨ j = 7 := by omega
    rcases this with rfl | rfl | rfl | rfl | rfl | rfl | rfl | rfl <;> exact n64_shr hx rfl
  have : x / 2 ^ (8 * j) ≤ x := Nat.div_le_self _ _
  rw [e, n64_and8 (by omega), pow8]; rfl
/-- a word, the twin -/
theorem t_wordL (hx : x < 9223372036854775808) : ∀ (j f : Nat) (σ : TS), j ≤ 8 → j < f → L_printName_3 f (n64 x) (nI (8 * j) - 8) σ = tpL (wls j x) σ
  | 0, f, σ, _, hf => by
    obtain ⟨f, rfl⟩ : ∃ g, f = g + 1 := ⟨f - 1, by omega⟩
    rw [L_printName_3, ifT (show nI (8 * 0) - 8 < 0 by decide)]; rfl
  | j + 1, f, σ, hj, hf => by
    obtain ⟨f, rfl⟩ : ∃ g, f = g + 1 := ⟨f - 1, by omega⟩
    have e : nI (8 * (j + 1)) - 8 = nI (8 * j) := by rw [nI_subL _ _ (by show 8 ≤ 8 * (j + 1); omega)]; congr 1
    have e2 : nI (8 * j) + (-8) = nI (8 * j) - 8 := by rw [Int32.sub_eq_add_neg]
    have b8 : btx x j < 256 := Nat.mod_lt _ (by decide)
    rw [e, L_printName_3, ifF (show ¬ nI (8 * j) < 0 from by rw [nI_ltL (by omega) (by decide)]; exact Nat.not_lt_zero _), t_byte hx (by omega), e2]
    show _ = tpL (if btx x j = 0 then wls j x else nI (btx x j) :: wls j x) σ
    by_cases q : btx x j = 0
    · rw [ifT (lg_eq.mpr (by rw [q]; rfl)), ifT q, nm_eq]
      exact t_wordL hx j f σ (by omega) (by omega)
    · rw [ifF (show ¬ lg_cmp (n64 (btx x j)) 0 = 0 from fun z => q ((n64_eq (b := 0) (by omega) (by decide)).mp (lg_eq.mp z))), ifF q, n64_i32]
      show _ = ob (F_letter (nI (btx x j)) σ) fun _ s => tpL (wls j x) s
      congr 1
      funext _ s
      rw [nm_eq]
      exact t_wordL hx j f s (by omega) (by omega)
theorem t_wordN (d : WdX v x n) (σ : TS) : F_printName v σ = tpL (wls n x) σ := by
  obtain ⟨⟨d1, -⟩, d2, d3, d4, -⟩ := d
  have fu := FUb
  unfold F_printName
  have h := t_wordL d2 8 FU σ (Nat.le_refl _) (by omega)
  rw [show nI (8 * 8) - 8 = (56 : Int32) by decide, ← d1] at h
  rw [h, ob_idu, show 8 = n + (8 - n) by omega, wls_cut d4]
theorem OuK.keys (k : OuK M M') (H : KeysOK M) : KeysOK M' := by
  obtain ⟨k1, k2, k3, k4, k5, k6, ⟨k7, -⟩, -⟩ := k
  obtain ⟨⟨h1, h2, h3, h4, h5, h6⟩, h⟩ := H
  have kd : ∀ j, j < 38 → kar j ≠ 3 := by decide +kernel
  refine ⟨⟨(k6 5).1.trans h1, (k2 _ _).trans h2, (k1 _ _ (by omega)).trans h3, (k6 79).1.trans h4, (k6 79).2.trans h5, (k6 4).1.trans h6⟩, fun j hj => ?_⟩
  obtain ⟨⟨a1, a2, a3, a4, a5, a6⟩, a7⟩ := h j hj
  exact ⟨⟨(k4 _ _).trans a1, (k6 _).1.trans a2, (k2 _ _).trans a3, (k1 _ _ (by omega)).trans a4, (k6 _).1.trans a5, (k6 _).2.trans a6⟩, fun i hi => (k3 _ _ (kd j hj)).trans (a7 i hi)⟩
theorem OuK.wn (k : OuK M M') (W : WN M m L) : WN M' m L := by
  obtain ⟨k1, k2, k3, k4, k5, k6, ⟨k7, -⟩, -⟩ := k
  unfold WN at *
  rw [k1 _ _ (by omega), k2, (k6 _).1, (k6 _).2, k7]
  simp only [k5]
  exact W
theorem by8_nI (a : Nat) : by8 (nI a) = a % 256 := by
  rw [by8_eq, and255_bv, BitVec.toNat_and]
  show (BitVec.ofNat 32 a).toNat &&& 255 = _
  rw [BitVec.toNat_ofNat, show a % 2 ^ 32 &&& 255 = a % 2 ^ 32 % 256 from Nat.and_two_pow_sub_one_eq_mod _ 8]
  omega
theorem k_byte (hu : u64 v = x) {j : Nat} (hj : j < 8) : (((v.toUInt64 >>> ((nI (8 * j)).toInt64.toUInt64 &&& Int64.toUInt64 63)).toInt64).toInt32) &&& 255 = nI (btx x j) := by
  have e : (v.toUInt64 >>> ((nI (8 * j)).toInt64.toUInt64 &&& Int64.toUInt64 63)).toInt64 = n64 (x / 2 ^ (8 * j)) := by
    have hl := u64_lt v
    have : x / 2 ^ (8 * j) ≤ x := Nat.div_le_self _ _
    apply Int64.toBitVec_inj.mp
    apply BitVec.eq_of_toNat_eq
    rw [n64_nat (by omega)]
    have sh : ∀ j, j = 0 ∨ j = 1 ∨ j = 2 ∨ j = 3 ∨ j = 4 ∨ j = 5 ∨ j = 6 ∨ j = 7 → ((v.toUInt64 >>> ((nI (8 * j)).toInt64.toUInt64 &&& Int64.toUInt64 63)).toInt64).toBitVec = v.toBitVec >>> (8 * j) := fun j hj => by
      rcases hj with rfl | rfl | rfl | rfl | rfl | rfl | rfl | rfl <;> rfl
    rw [sh j (by omega), BitVec.toNat_ushiftRight, Nat.shiftRight_eq_div_pow, ← hu]; rfl
  rw [e, n64_i32, and255_nI, by8_nI, pow8]; rfl
theorem k_letterN (H : KeysOK M) (W : WN M m L) (hk : k < m) (d : WdX (mL M (mR M 201 4) k) x n) {i : Nat} (hi : i < n) : K_X1_letter (nI (38 + k)) (nI i) M = some (nI (btx x (n - 1 - i)), M) := by
  have l := k_length H W hk
  obtain ⟨⟨d1, d2⟩, d3, d4, d5, d6, d7⟩ := d
  rw [d2, d7] at l
  obtain ⟨h1, h2, h3, h4, h5, h6, -⟩ := W
  have e : nI (38 + k) - 38 = nI k := by rw [nI_subL _ _ (by omega)]; congr 1; omega
  unfold K_X1_letter
  rw [k_size5 H, ob_some, e, ifT ⟨h2, by rw [h3]; exact inb_nI' (by omega) (by omega)⟩, l, ob_some, ix_nI (by omega), show (8 : Int32) * (nI n - 1 - nI i) = nI (8 * (n - 1 - i)) from by
    rw [nI_subL _ _ (by omega), nI_sub (by show i ≤ n - 1; omega)]
    exact (Int32.ofNat_mul 8 (n - 1 - i)).symm, k_byte d2 (by omega)]
/-- a word, the component -/
theorem k_wordL (H : KeysOK M) (W : WN M m L) (hk : k < m) (d : WdX (mL M (mR M 201 4) k) x n) : ∀ (dd i f : Nat) (M' : CM), i + dd = n → dd < f → OuK M M' → KL_X0_putStep_2 f (nI (38 + k)) x2 (nI i) M' = kpL (wls (n - i) x) M'
  | dd, i, 0, _, _, hf, _ => absurd hf (Nat.not_lt_zero _)
  | 0, i, f + 1, M', hi, _, o => by
    have H' := o.keys H
    have W' := o.wn W
    have ev : mL M' (mR M' 201 4) k = mL M (mR M 201 4) k := by rw [o.2.1, o.2.2.2.2.1]
    have l := k_length H' W' hk
    rw [ev, d.1.2, d.2.2.2.2.2] at l
    have n8 := d.2.2.1.2
    rw [KL_X0_putStep_2, l, ob_some, ifT ((bI_le (by omega) (by omega)).mpr (by omega)), show n - i = 0 by omega]; rfl
  | dd + 1, i, f + 1, M', hi, hf, o => by
    have H' := o.keys H
    have W' := o.wn W
    have ev : mL M' (mR M' 201 4) k = mL M (mR M 201 4) k := by rw [o.2.1, o.2.2.2.2.1]
    have l := k_length H' W' hk
    rw [ev, d.1.2, d.2.2.2.2.2] at l
    have n8 := d.2.2.1.2
    have nz := (d.2.2.2.2.1 (n - 1 - i) (by omega)).1
    rw [KL_X0_putStep_2, l, ob_some, ifF (fun z => by have := (bI_le (by omega) (by omega)).mp z; omega), k_letterN H' W' hk (by rw [ev]; exact d) (show i < n by omega), ob_some, show n - i = (n - 1 - i) + 1 by omega]
    show _ = kpL (if btx x (n - 1 - i) = 0 then _ else nI (btx x (n - 1 - i)) :: wls (n - 1 - i) x) M'
    rw [ifF nz]
    show _ = ob (K_X0_put (nI (btx x (n - 1 - i))) M') fun _ M1 => kpL (wls (n - 1 - i) x) M1
    cases e : K_X0_put (nI (btx x (n - 1 - i))) M' with
    | none => rfl
    | some q =>
      obtain ⟨u, M1⟩ := q
      have o1 : OuK M' M1 := by
        unfold K_X0_put at e
        by_cases q1 : 500 ≤ mI M' 3 1
        · rw [ifT q1] at e
          have : M' = M1 := congrArg Prod.snd (Option.some.inj e)
          rw [← this]; exact OuK.rf
        · rw [ifF q1] at e
          by_cases q2 : inb (mI M' 3 1) 500
          · rw [ifT q2, nm_eq, nm_eq] at e
            cases e
            refine ⟨fun g o z => by rw [mI_msI, ifF z]; rfl, fun _ _ => rfl, fun a j z => ?_, fun _ _ => rfl, fun _ _ => rfl, fun _ => ⟨rfl, rfl⟩, ⟨rfl, rfl⟩, ((Fz.rf (X := fun o => o = 1 ∨ o = 3)).mwA (fun _ => Or.inr rfl)).msI (fun _ => Or.inl rfl)⟩
            show mA (mwA M' 3 _ _) a j = mA M' a j
            rw [mA_mwA, ifF (fun y => z y.1)]
          · rw [ifF q2] at e; exact absurd e (by intro z; cases z)
      rw [ob_some, ob_some, nm_eq, nI_addL, k_wordL H W hk d dd (i + 1) f M1 (by omega) (by omega) (o.tr o1), show n - (i + 1) = n - 1 - i by omega]
/-- digits from behind -/
theorem dgl_snoc : ∀ (k n : Nat), dgl (k + 1) n = dgl k (n / 10) ++ [nI (48 + n % 10)]
  | 0, n => by
    show [nI (48 + n / 10 ^ 1 % 10), nI (48 + n % 10)] = [nI (48 + n / 10 % 10)] ++ [nI (48 + n % 10)]
    rw [Nat.pow_one]; rfl
  | k + 1, n => by
    show nI (48 + n / 10 ^ (k + 2) % 10) :: dgl (k + 1) n = (nI (48 + n / 10 / 10 ^ (k + 1) % 10) :: dgl k (n / 10)) ++ [nI (48 + n % 10)]
    rw [dgl_snoc k n, Nat.div_div_eq_div_mul, show 10 * 10 ^ (k + 1) = 10 ^ (k + 2) by rw [Nat.pow_succ 10 (k + 1), Nat.mul_comm]]; rfl
theorem k_digit (h : n < 2147483648) : (48 : Int32) + (nI n - nI n / 10 * 10) = nI (48 + n % 10) := by
  have h2 : n / 10 * 10 ≤ n := Nat.div_mul_le_self _ _
  rw [show (10 : Int32) = nI 10 from rfl, nI_div h (by decide), show nI (n / 10) * nI 10 = nI (n / 10 * 10) from (Int32.ofNat_mul _ _).symm, nI_sub h2, nI_Ladd]
  congr 1
  show 48 + (n - n / 10 * 10) = _
  omega
/-- a number, the component -/
theorem k_numL : ∀ (k n g : Nat) (M : CM), n < 10 ^ (k + 1) → (k = 0 ∨ 10 ^ k ≤ n) → n < 2147483648 → k < g → KG_X0_putNumber g (nI n) M = kpL (dgl k n) M
  | _, _, 0, _, _, _, _, hg => absurd hg (Nat.not_lt_zero _)
  | 0, n, g + 1, M, h, _, h3, _ => by
    show KB_X0_putNumber (KG_X0_putNumber g) (nI n) M = _
    unfold KB_X0_putNumber
    have : n < 10 := by simpa using h
    rw [ifT (show (0 : Int32) ≤ nI n from (bI_le (a := 0) (by decide) h3).mpr (Nat.zero_le _)), ifT (show nI n ≤ 9 from (bI_le (b := 9) h3 (by decide)).mpr (by omega)), k_digit h3, ob_idk]
    exact kpL_one.symm
  | k + 1, n, g + 1, M, h, h2, h3, hg => by
    have h2 : 10 ^ (k + 1) ≤ n := by
      rcases h2 with q | q
      · omega
      · exact q
    have p1 : 10 ^ (k + 1) = 10 ^ k * 10 := Nat.pow_succ 10 k
    have p2 : 10 ^ (k + 2) = 10 ^ (k + 1) * 10 := Nat.pow_succ 10 (k + 1)
    have p0 : 1 ≤ 10 ^ k := Nat.le_trans Nat.one_le_two_pow (Nat.pow_le_pow_left (by decide) k)
    show KB_X0_putNumber (KG_X0_putNumber g) (nI n) M = _
    unfold KB_X0_putNumber
    rw [ifT (show (0 : Int32) ≤ nI n from (bI_le (a := 0) (by decide) h3).mpr (Nat.zero_le _)), ifF (show ¬ nI n ≤ 9 from fun z => by have := (bI_le (b := 9) h3 (by decide)).mp z; omega), k_digit h3, show nI n / 10 = nI (n / 10) from nI_div h3 (by decide), k_numL k (n / 10) g M (by omega) (Or.inr (by omega)) (by omega) (by omega), dgl_snoc, kpL_app]
    congr 1
theorem t_num26 (hn : n < 2147483648) (h : n < 10 ^ (k + 1)) (h2 : k = 0 ∨ 10 ^ k ≤ n) (hk : k ≤ 9) : ∀ (d i f : Nat) (σ : TS), i + d = k → d < f → L_printNumber_26 f (n64 n) (n64 (10 ^ i)) σ = some (n64 (10 ^ k), σ) := by
  intro d
  have lt9 : ∀ i, i ≤ 9 → 10 ^ i ≤ 10 ^ 9 := fun i hi => Nat.pow_le_pow_right (by decide) hi
  have p9 : (10 : Nat) ^ 9 = 1000000000 := by decide
  have pos : ∀ i, 1 ≤ 10 ^ i := fun i => Nat.le_trans Nat.one_le_two_pow (Nat.pow_le_pow_left (by decide) i)
  have le_ : ∀ i, i ≤ 9 → (lg_cmp (n64 n / n64 (10 ^ i)) 9 ≤ 0 ↔ n / 10 ^ i ≤ 9) := fun i hi => by
    have := lt9 i hi
    have := Nat.div_le_self n (10 ^ i)
    rw [n64_div (by omega) (by omega), lg_le, show (9 : Int64) = n64 9 from rfl, n64_lt (by decide) (by omega)]; omega
  induction d with
  | zero =>
    intro i f σ hi hf
    obtain ⟨f, rfl⟩ : ∃ g, f = g + 1 := ⟨f - 1, by omega⟩
    have : i = k := by omega
    subst this
    have q : n / 10 ^ i ≤ 9 := by
      have : n / 10 ^ i < 10 := by rw [Nat.div_lt_iff_lt_mul (pos i)]; rw [Nat.pow_succ] at h; omega
      omega
    rw [L_printNumber_26, ifT (show ¬ n64 (10 ^ i) = 0 from fun z => by have := (n64_eq (b := 0) (by have := lt9 i hk; omega) (by decide)).mp z; have := pos i; omega), ifT ((le_ i hk).mpr q)]
  | succ d ih =>
    intro i f σ hi hf
    obtain ⟨f, rfl⟩ : ∃ g, f = g + 1 := ⟨f - 1, by omega⟩
    have q : ¬ n / 10 ^ i ≤ 9 := by
      have h2 : 10 ^ k ≤ n := by
        rcases h2 with z | z
        · omega
        · exact z
      have a : 10 ^ (i + 1) ≤ 10 ^ k := Nat.pow_le_pow_right (by decide) (by omega)
      have : 10 ≤ n / 10 ^ i := by rw [Nat.le_div_iff_mul_le (pos i)]; rw [Nat.pow_succ] at a; omega
      omega
    rw [L_printNumber_26, ifT (show ¬ n64 (10 ^ i) = 0 from fun z => by have := (n64_eq (b := 0) (by have := lt9 i (by omega); omega) (by decide)).mp z; have := pos i; omega), ifF (fun z => q ((le_ i (by omega)).mp z)), nm_eq, show n64 (10 ^ i) * 10 = n64 (10 ^ (i + 1)) from by rw [Nat.pow_succ]; exact n64_mul (10 ^ i) 10]
    exact ih (i + 1) f σ (by omega) (by omega)
theorem t_num48 (hn : n < 2147483648) : ∀ (k f : Nat) (σ : TS), k ≤ 9 → k + 1 < f → L_printNumber_48 f (n64 n) (n64 (10 ^ k)) σ = tpL (dgl k n) σ := by
  have lt9 : ∀ i, i ≤ 9 → 10 ^ i ≤ 10 ^ 9 := fun i hi => Nat.pow_le_pow_right (by decide) hi
  have p9 : (10 : Nat) ^ 9 = 1000000000 := by decide
  have pos : ∀ i, 1 ≤ 10 ^ i := fun i => Nat.le_trans Nat.one_le_two_pow (Nat.pow_le_pow_left (by decide) i)
  have dig : ∀ i, i ≤ 9 → ((((n64 n / n64 (10 ^ i)) - (n64 n / n64 (10 ^ i)) / 10 * 10).toInt32) + 48) = nI (48 + n / 10 ^ i % 10) := fun i hi => by
    have := lt9 i hi
    have := Nat.div_le_self n (10 ^ i)
    have h2 : n / 10 ^ i / 10 * 10 ≤ n / 10 ^ i := Nat.div_mul_le_self _ _
    rw [n64_div (by omega) (by omega), show (10 : Int64) = n64 10 from rfl, n64_div (by omega) (by decide), n64_mul, n64_sub h2, n64_i32, nI_addL]
    congr 1
    show n / 10 ^ i - n / 10 ^ i / 10 * 10 + 48 = _
    omega
  have gt : ∀ i, i ≤ 9 → ¬ lg_cmp (n64 (10 ^ i)) 0 ≤ 0 := fun i hi => by
    have := lt9 i hi
    have := pos i
    rw [lg_le, show (0 : Int64) = n64 0 from rfl, n64_lt (by decide) (by omega)]; omega
  intro k
  induction k with
  | zero =>
    intro f σ hk hf
    obtain ⟨f, rfl⟩ : ∃ g, f = g + 2 := ⟨f - 2, by omega⟩
    rw [L_printNumber_48, ifF (gt 0 hk), ifT (show ¬ n64 (10 ^ 0) = 0 by decide), dig 0 hk]
    show _ = ob (F_letter (nI (48 + n % 10)) σ) fun _ s => tpL [] s
    rw [Nat.pow_zero, Nat.div_one]
    congr 1
  | succ k ih =>
    intro f σ hk hf
    obtain ⟨f, rfl⟩ : ∃ g, f = g + 1 := ⟨f - 1, by omega⟩
    rw [L_printNumber_48, ifF (gt (k + 1) hk), ifT (show ¬ n64 (10 ^ (k + 1)) = 0 from fun z => by have := (n64_eq (b := 0) (by have := lt9 (k + 1) hk; omega) (by decide)).mp z; have := pos (k + 1); omega), dig (k + 1) hk]
    show _ = ob (F_letter (nI (48 + n / 10 ^ (k + 1) % 10)) σ) fun _ s => tpL (dgl k n) s
    congr 1
    funext _ s
    rw [nm_eq, show n64 (10 ^ (k + 1)) / 10 = n64 (10 ^ k) from by
      have := lt9 (k + 1) hk
      rw [show (10 : Int64) = n64 10 from rfl, n64_div (by omega) (by decide), Nat.pow_succ, Nat.mul_div_cancel _ (by decide)]]
    exact ih f s (by omega) (by omega)
theorem len10 (h : n < 2147483648) : ∃ k, k ≤ 9 ∧ n < 10 ^ (k + 1) ∧ (k = 0 ∨ 10 ^ k ≤ n) := by
  have : n < 10 ∨ (10 ≤ n ∧ n < 100) ∨ (100 ≤ n ∧ n < 1000) ∨ (1000 ≤ n ∧ n < 10000) ∨ (10000 ≤ n ∧ n < 100000) ∨ (100000 ≤ n ∧ n < 1000000) ∨ (1000000 ≤ n ∧ n < 10000000) ∨ (10000000 ≤ n ∧ n < 100000000) ∨ (100000000 ≤ n ∧ n < 1000000000) ∨ (1000000000 ≤ n ∧ n < 10000000000) := by omega
  rcases this with q | q | q | q | q | q | q | q | q | q
  · exact ⟨0, by decide, by simpa using q, Or.inl rfl⟩
  · exact ⟨1, by decide, q.2, Or.inr q.1⟩
  · exact ⟨2, by decide, q.2, Or.inr q.1⟩
  · exact ⟨3, by decide, q.2, Or.inr q.1⟩
  · exact ⟨4, by decide, q.2, Or.inr q.1⟩
  · exact ⟨5, by decide, q.2, Or.inr q.1⟩
  · exact ⟨6, by decide, q.2, Or.inr q.1⟩
  · exact ⟨7, by decide, q.2, Or.inr q.1⟩
  · exact ⟨8, by decide, q.2, Or.inr q.1⟩
  · exact ⟨9, by decide, q.2, Or.inr q.1⟩
/-- a number, both sides -/
theorem z_pnum (h : OuR M σ) (hn : n < 2147483648) : PrJ M σ (K_X0_putNumber (nI n) M) (F_printNumber (nI n) σ) := by
  obtain ⟨k, k9, k1, k2⟩ := len10 hn
  have fu := FUb
  have nn : (0 : Int32) ≤ nI n := (bI_le (a := 0) (by decide) hn).mpr (Nat.zero_le _)
  have e1 : K_X0_putNumber (nI n) M = kpL (dgl k n) M := k_numL k n 300 M k1 k2 hn (by omega)
  have e2 : F_printNumber (nI n) σ = tpL (dgl k n) σ := by
    unfold F_printNumber J_printNumber_10 J_printNumber_22
    rw [ifT nn, ifT nn, show (nI n).toInt64 = n64 n from by
      apply Int64.toInt_inj.mp
      rw [Int32.toInt_toInt64, bI_toInt hn, n64_toInt (by omega)], show (1 : Int64) = n64 (10 ^ 0) from rfl, t_num26 hn k1 k2 k9 k 0 FU σ (by omega) (by omega), ob_some, t_num48 hn k FU σ k9 (by omega), ob_idu]
  rw [e1, e2]
  exact z_list _ M σ (dgl_lt k n) h
end WORD
