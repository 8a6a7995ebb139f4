/-! Layer B: the component reads its tokens -/
set_option maxRecDepth 100000
/-- token j of the component's rows is the one behind p -/
def TokK (M : CM) (m : Nat) (b : Nat → Int32) (len j p e kd : Nat) : Prop := ∃ s wd sg nu wh, TokS b len p s e kd wd sg nu wh ∧ mA M 94 j = nI s ∧
  ((kd = 0 ∧ mA M 91 j = 4) ∨ (kd = 1 ∧ mA M 91 j = 1 ∧ ∃ w, mA M 92 j = nI w ∧ w < 38 + m ∧ wc M w = wd) ∨ (kd = 2 ∧ mA M 91 j = 2 ∧ mA M 92 j = nu ∧ mA M 93 j = wh) ∨ (kd = 3 ∧ mA M 91 j = sg) ∨ (kd = 4 ∧ mA M 91 j = 3))
/-- while tokens are read: since M0, t of them, the next behind pos t -/
def LexI (M0 M : CM) (m0 L0 m L : Nat) (b : Nat → Int32) (len c t : Nat) (pos : Nat → Nat) : Prop :=
  KeysOK M ∧ WN M m L ∧ (mk M 2 = 51 ∧ ml M 2 = 2000 ∧ len ≤ 2000 ∧ m0 + len ≤ 1280 ∧ 167 ≤ mn M0 ∧ mn M0 + 4096 ≤ 601024 ∧ ms M0 + 16384 ≤ 7293034) ∧ mI M 1 1 = nI len ∧ (∀ i, i < len → mA M 2 i = b i ∧ nB (b i) = b i) ∧ mI M 404 90 = nI c ∧ (pos 0 = 0 ∧ t ≤ pos t ∧ pos t ≤ len) ∧ m ≤ m0 + t ∧
  (KT M0 M ∧ L0 ≤ L ∧ mn M ≤ mn M0 + (L - L0) ∧ ms M ≤ ms M0 + 2 * (L - L0) ∧ m0 ≤ m ∧ ∀ w, w < 38 + m0 → wc M w = wc M0 w) ∧
  ∀ j, j < t → (∃ kd, (kd = 1 ∨ kd = 2 ∨ kd = 3) ∧ TokK M m b len j (pos j) (pos (j + 1)) kd) ∧ pos j < pos (j + 1)
theorem ptK_letter (c : Int32) (M : CM) : (isLt c ∧ K_X2_isLetter c M = some (1, M)) ∨ (¬ isLt c ∧ K_X2_isLetter c M = some (0, M)) := by
  unfold K_X2_isLetter isLt
  by_cases h1 : c < 97
  · rw [ifT h1]; right; exact ⟨fun q => absurd q.1 (Int32.not_le.mpr h1), rfl⟩
  · rw [ifF h1]
    by_cases h2 : 122 < c
    · rw [ifT h2]; right; exact ⟨fun q => absurd q.2 (Int32.not_le.mpr h2), rfl⟩
    · rw [ifF h2]; left; exact ⟨⟨Int32.not_lt.mp h1, Int32.not_lt.mp h2⟩, rfl⟩
theorem ptK_digit (c : Int32) (M : CM) : (isDt c ∧ K_X2_isDigit c M = some (1, M)) ∨ (¬ isDt c ∧ K_X2_isDigit c M = some (0, M)) := by
  unfold K_X2_isDigit isDt
  by_cases h1 : c < 48
  · rw [ifT h1]; right; exact ⟨fun q => absurd q.1 (Int32.not_le.mpr h1), rfl⟩
  · rw [ifF h1]
    by_cases h2 : 57 < c
    · rw [ifT h2]; right; exact ⟨fun q => absurd q.2 (Int32.not_le.mpr h2), rfl⟩
    · rw [ifF h2]; left; exact ⟨⟨Int32.not_lt.mp h1, Int32.not_lt.mp h2⟩, rfl⟩
theorem cB_0 {b : Nat → Int32} {len k : Nat} (h : len ≤ k) : cB b len k = 0 := ifF (by omega)
theorem cB_lt {b : Nat → Int32} {len k : Nat} (h : k < len) : cB b len k = b k := ifT h
theorem not_ch0 : ¬ chOK 0 := by unfold chOK; decide
theorem not_dt0 : ¬ isDt 0 := by unfold isDt; decide
theorem ch_lt {b : Nat → Int32} {len k : Nat} (h : chOK (cB b len k)) : k < len := by
  rcases Nat.lt_or_ge k len with q | q
  · exact q
  · rw [cB_0 q] at h; exact absurd h not_ch0
theorem dt_lt {b : Nat → Int32} {len k : Nat} (h : isDt (cB b len k)) : k < len := by
  rcases Nat.lt_or_ge k len with q | q
  · exact q
  · rw [cB_0 q] at h; exact absurd h not_dt0
/-- the text on the tape -/
def TapeK (M : CM) (b : Nat → Int32) (len : Nat) : Prop := mI M 1 1 = nI len ∧ len ≤ 2000 ∧ ∀ i, i < len → mA M 2 i = b i
section KTOK
variable {M M0 : CM} {m L m0 L0 len t : Nat} {b : Nat → Int32} {pos : Nat → Nat}
theorem ptK_byte (T : TapeK M b len) {k : Nat} (hk : k < 2147483648) : K_X2_byteAt (nI k) M = some (cB b len k, M) := by
  obtain ⟨h1, h2, h3⟩ := T
  unfold K_X2_byteAt
  rw [h1]
  by_cases h : len ≤ k
  · rw [ifT ((bI_le (by omega) hk).mpr h), cB_0 h]
  · rw [ifF (by rw [bI_le (by omega) hk]; exact h), ifT (inb_nI' (by omega) (by decide)), ix_nI hk, h3 k (by omega), cB_lt (by omega)]
theorem ptK_word (T : TapeK M b len) {x3 : Int32} : ∀ (d k f : Nat), len + 1 - k = d → d < f → k ≤ len + 1 → ∃ q, KL_X2_tokens_68 f (nI k) x3 M = some (nI q, M) ∧ FN (fun r => chOK (cB b len r)) k q
  | 0, k, f + 1, hd, _, hk => by
    have hlen := T.2.1
    have hk : k = len + 1 := by omega
    rw [KL_X2_tokens_68, ptK_byte T (by omega), ob_some, cB_0 (by omega)]
    rcases ptK_letter 0 M with ⟨e, -⟩ | ⟨-, e⟩
    · exact absurd e (by unfold isLt; decide)
    rw [e, ob_some, ifT rfl, ptK_byte T (by omega), ob_some, cB_0 (by omega)]
    rcases ptK_digit 0 M with ⟨e, -⟩ | ⟨-, e⟩
    · exact absurd e (by unfold isDt; decide)
    rw [e, ob_some, ifT rfl, ptK_byte T (by omega), ob_some, cB_0 (by omega), ifF (by decide)]
    refine ⟨k, rfl, Nat.le_refl _, fun r h1 h2 => by omega, ?_⟩
    show ¬ chOK (cB b len k)
    rw [cB_0 (by omega)]; exact not_ch0
  | d + 1, k, f + 1, hd, hf, hk => by
    have hlen := T.2.1
    have go : chOK (cB b len k) → ∃ q, KL_X2_tokens_68 f (nI (k + 1)) x3 M = some (nI q, M) ∧ FN (fun r => chOK (cB b len r)) k q := by
      intro hc
      obtain ⟨q, h1, h2, h3, h4⟩ := ptK_word T d (k + 1) f (by omega) (by omega) (by omega)
      refine ⟨q, h1, by omega, fun r g1 g2 => ?_, h4⟩
      by_cases e : r = k
      · subst e; exact hc
      · exact h3 r (by omega) g2
    rw [KL_X2_tokens_68, ptK_byte T (by omega), ob_some]
    rcases ptK_letter (cB b len k) M with ⟨g, e⟩ | ⟨g, e⟩
    · rw [e, ob_some, ifF (by decide), nm_eq, nI_addL]
      exact go (Or.inl g)
    rw [e, ob_some, ifT rfl, ptK_byte T (by omega), ob_some]
    rcases ptK_digit (cB b len k) M with ⟨g2, e⟩ | ⟨g2, e⟩
    · rw [e, ob_some, ifF (by decide), nm_eq, nI_addL]
      exact go (Or.inr (Or.inl g2))
    rw [e, ob_some, ifT rfl, ptK_byte T (by omega), ob_some]
    by_cases h95 : cB b len k = 95
    · rw [ifT h95, nm_eq, nI_addL]
      exact go (Or.inr (Or.inr h95))
    · rw [ifF h95]
      refine ⟨k, rfl, Nat.le_refl _, fun r h1 h2 => by omega, ?_⟩
      rintro (q | q | q)
      · exact g q
      · exact g2 q
      · exact h95 q
/-- a digit's worth -/
theorem dig_n64 {c : Int32} (h : isDt c) (v : Nat) : ((10 * n64 v) + (c.toInt64)) - 48 = n64 (10 * v + (ix c - 48)) ∧ 48 ≤ ix c ∧ ix c ≤ 57 := by
  obtain ⟨h1, h2⟩ := h
  obtain ⟨n, rfl, hn⟩ := bI_of (Int32.le_trans (show (0 : Int32) ≤ 48 by decide) h1)
  rw [nI_Lle hn (by decide)] at h1
  rw [nI_leL hn (by decide)] at h2
  have h1 : 48 ≤ n := h1
  have h2 : n ≤ 57 := h2
  rw [ix_nI hn, nI_i64 hn, show (10 : Int64) = n64 10 from rfl, n64_mul, n64_add, show (48 : Int64) = n64 48 from rfl, n64_sub (by omega)]
  exact ⟨by congr 1; omega, h1, h2⟩
theorem dec_lt (hb : ∀ r, isDt (b r) → True) {p : Nat} : ∀ n, (∀ i, i < n → isDt (b (p + i))) → dec b p n < 10 ^ n
  | 0, _ => Nat.one_pos
  | n + 1, h => by
    have h1 := dec_lt hb n (fun i hi => h i (by omega))
    have h2 := (dig_n64 (h n (Nat.lt_succ_self _)) 0).2
    show 10 * dec b p n + (ix (b (p + n)) - 48) < 10 ^ n * 10
    omega
/-- the digits of a numeral, six at most -/
theorem ptK_num1 (T : TapeK M b len) {s : Nat} : ∀ (d k f : Nat), len + 1 - k = d → d < f → s ≤ k → k ≤ s + 6 → k ≤ len + 1 → (∀ r, s ≤ r → r < k → isDt (cB b len r)) → ∃ q, KL_X2_numeral_4 f (nI s) (nI k) (n64 (dec b s (k - s))) M = some ((nI q, n64 (dec b s (q - s))), M) ∧ k ≤ q ∧ q ≤ s + 6 ∧ (∀ r, s ≤ r → r < q → isDt (cB b len r)) ∧ (¬ isDt (cB b len q) ∨ q = s + 6)
  | 0, k, f + 1, hd, _, h1, h2, h3, h4 => by
    have hlen := T.2.1
    rw [KL_X2_numeral_4, ptK_byte T (by omega), ob_some, cB_0 (by omega)]
    rcases ptK_digit 0 M with ⟨e, -⟩ | ⟨-, e⟩
    · exact absurd e (by unfold isDt; decide)
    rw [e, ob_some, ifT rfl]
    exact ⟨k, rfl, Nat.le_refl _, h2, h4, Or.inl (by rw [cB_0 (by omega)]; exact not_dt0)⟩
  | d + 1, k, f + 1, hd, hf, h1, h2, h3, h4 => by
    have hlen := T.2.1
    rw [KL_X2_numeral_4, ptK_byte T (by omega), ob_some]
    rcases ptK_digit (cB b len k) M with ⟨g, e⟩ | ⟨g, e⟩
    · rw [e, ob_some, ifF (by decide), nI_sub (by omega)]
      by_cases h6 : 6 ≤ k - s
      · rw [ifT ((nI_Lle (by omega) (by decide)).mpr h6)]
        exact ⟨k, rfl, Nat.le_refl _, h2, h4, Or.inr (by omega)⟩
      · have hk := dt_lt g
        have g' : isDt (b k) := by rw [cB_lt hk] at g; exact g
        rw [ifF (by rw [nI_Lle (by omega) (by decide)]; exact h6), ifT (inb_nI' (by omega) (by decide)), nm_eq, nm_eq, ix_nI (by omega), T.2.2 k hk, (dig_n64 g' _).1, nI_addL]
        have e2 : 10 * dec b s (k - s) + (ix (b k) - 48) = dec b s (k + 1 - s) := by
          rw [show k + 1 - s = (k - s) + 1 by omega]
          show _ = 10 * dec b s (k - s) + (ix (b (s + (k - s))) - 48)
          rw [show s + (k - s) = k by omega]
        rw [e2]
        obtain ⟨q, a1, a2, a3, a4, a5⟩ := ptK_num1 (s := s) T d (k + 1) f (by omega) (by omega) (by omega) (by omega) (by omega) (fun r q1 q2 => by
          by_cases er : r = k
          · subst er; exact g
          · exact h4 r q1 (by omega))
        exact ⟨q, a1, by omega, a3, a4, a5⟩
    · rw [e, ob_some, ifT rfl]
      exact ⟨k, rfl, Nat.le_refl _, h2, h4, Or.inl g⟩
/-- the digits behind the point, five at most -/
theorem ptK_num2 (T : TapeK M b len) {x1 x5 x6 : Int32} {x3 : Int64} {s : Nat} : ∀ (d k f : Nat), len + 1 - k = d → d < f → s ≤ k → k ≤ s + 5 → k ≤ len + 1 → (∀ r, s ≤ r → r < k → isDt (cB b len r)) → ∃ q, KL_X2_numeral_104 f x1 (nI k) x3 x5 x6 (n64 (dec b s (k - s))) (n64 (10 ^ (k - s))) M = some ((nI q, n64 (dec b s (q - s)), n64 (10 ^ (q - s))), M) ∧ k ≤ q ∧ q ≤ s + 5 ∧ (∀ r, s ≤ r → r < q → isDt (cB b len r)) ∧ (¬ isDt (cB b len q) ∨ q = s + 5)
  | 0, k, f + 1, hd, _, h1, h2, h3, h4 => by
    have hlen := T.2.1
    rw [KL_X2_numeral_104, ptK_byte T (by omega), ob_some, cB_0 (by omega)]
    rcases ptK_digit 0 M with ⟨e, -⟩ | ⟨-, e⟩
    · exact absurd e (by unfold isDt; decide)
    rw [e, ob_some, ifT rfl]
    exact ⟨k, rfl, Nat.le_refl _, h2, h4, Or.inl (by rw [cB_0 (by omega)]; exact not_dt0)⟩
  | d + 1, k, f + 1, hd, hf, h1, h2, h3, h4 => by
    have hlen := T.2.1
    have hp : ∀ j, j ≤ 5 → 10 ^ j ≤ 100000 := by decide
    have hp5 := hp (k - s) (by omega)
    rw [KL_X2_numeral_104, ptK_byte T (by omega), ob_some]
    rcases ptK_digit (cB b len k) M with ⟨g, e⟩ | ⟨g, e⟩
    · rw [e, ob_some, ifF (by decide)]
      by_cases h6 : k = s + 5
      · rw [ifT (lg_ge.mpr (by rw [show (100000 : Int64) = n64 100000 from rfl, n64_lt (by omega) (by decide), show k - s = 5 by omega]; decide))]
        exact ⟨k, rfl, Nat.le_refl _, h2, h4, Or.inr h6⟩
      · have hk := dt_lt g
        have g' : isDt (b k) := by rw [cB_lt hk] at g; exact g
        have hp4 : 10 ^ (k - s) < 100000 := by
          have : ∀ j, j ≤ 4 → 10 ^ j < 100000 := by decide
          exact this _ (by omega)
        rw [ifF (fun q => absurd (show n64 (10 ^ (k - s)) < 100000 from (n64_lt (by omega) (by decide)).mpr hp4) (lg_ge.mp q)), ifT (inb_nI' (by omega) (by decide)), nm_eq, nm_eq, nm_eq, ix_nI (by omega), T.2.2 k hk, (dig_n64 g' _).1, nI_addL, show (10 : Int64) = n64 10 from rfl, n64_mul]
        have e2 : 10 * dec b s (k - s) + (ix (b k) - 48) = dec b s (k + 1 - s) := by
          rw [show k + 1 - s = (k - s) + 1 by omega]
          show _ = 10 * dec b s (k - s) + (ix (b (s + (k - s))) - 48)
          rw [show s + (k - s) = k by omega]
        rw [e2, ← Nat.pow_succ, show (k - s).succ = k + 1 - s by omega]
        obtain ⟨q, a1, a2, a3, a4, a5⟩ := ptK_num2 (s := s) T d (k + 1) f (by omega) (by omega) (by omega) (by omega) (by omega) (fun r q1 q2 => by
          by_cases er : r = k
          · subst er; exact g
          · exact h4 r q1 (by omega))
        exact ⟨q, a1, by omega, a3, a4, a5⟩
    · rw [e, ob_some, ifT rfl]
      exact ⟨k, rfl, Nat.le_refl _, h2, h4, Or.inl g⟩
end KTOK
