/-! Layer B: the twin reads a token -/
set_option maxRecDepth 100000
def TapeT (σ : TS) (b : Nat → Int32) (len : Nat) : Prop := tI σ 8 = nI len ∧ len ≤ 2000 ∧ ∀ i, i < len → tA σ 5 i = b i ∧ nB (b i) = b i
theorem TapeT.kp {σ σ' : TS} {b : Nat → Int32} {len : Nat} {S : List Nat} (T : TapeT σ b len) (h : Ft S σ σ') (h1 : S.contains 8 = false) (h2 : S.contains 5 = false) : TapeT σ' b len := by
  obtain ⟨a1, a2, a3⟩ := T
  exact ⟨by rw [(h 8 h1).1]; exact a1, a2, fun i hi => by rw [(h 5 h2).2.2.1]; exact a3 i hi⟩
theorem TapeT.cb {σ : TS} {b : Nat → Int32} {len : Nat} (T : TapeT σ b len) (k : Nat) : nB (cB b len k) = cB b len k := by
  unfold cB
  by_cases h : k < len
  · rw [ifT h]; exact (T.2.2 k h).2
  · rw [ifF h]; decide
theorem and_eq {x c : Int32} (h : nB x = x) (h0 : 0 ≤ c) (h1 : c ≤ 127) : x &&& 255 = c ↔ x = c := by
  rcases byte_cases h with ⟨a, b, e⟩ | ⟨a, b⟩
  · rw [e]
  · constructor
    · intro q; rw [q] at b; exact absurd (Int32.le_trans b h1) (by decide)
    · intro q; subst q; exact absurd (Int32.lt_of_lt_of_le a h0) (Int32.lt_irrefl)
theorem and_lt {x : Int32} (h : nB x = x) : isLt (x &&& 255) ↔ isLt x := by
  rcases byte_cases h with ⟨a, b, e⟩ | ⟨a, b⟩
  · rw [e]
  · constructor
    · rintro ⟨_, q2⟩; exact absurd (Int32.le_trans b q2) (by decide)
    · rintro ⟨q1, _⟩; exact absurd (Int32.lt_of_le_of_lt q1 a) (by decide)
theorem and_dt {x : Int32} (h : nB x = x) : isDt (x &&& 255) ↔ isDt x := by
  rcases byte_cases h with ⟨a, b, e⟩ | ⟨a, b⟩
  · rw [e]
  · constructor
    · rintro ⟨_, q2⟩; exact absurd (Int32.le_trans b q2) (by decide)
    · rintro ⟨q1, _⟩; exact absurd (Int32.lt_of_le_of_lt q1 a) (by decide)
theorem and_wt {x : Int32} (h : nB x = x) : isWt (x &&& 255) ↔ isWt x := by
  unfold isWt
  rw [and_eq h (by decide) (by decide), and_eq h (by decide) (by decide), and_eq h (by decide) (by decide), and_eq h (by decide) (by decide)]
theorem and_sg {x : Int32} (h : nB x = x) : isSg (x &&& 255) ↔ isSg x := by
  unfold isSg
  simp only [and_eq h (c := 44) (by decide) (by decide), and_eq h (c := 59) (by decide) (by decide), and_eq h (c := 46) (by decide) (by decide), and_eq h (c := 40) (by decide) (by decide), and_eq h (c := 41) (by decide) (by decide), and_eq h (c := 91) (by decide) (by decide), and_eq h (c := 93) (by decide) (by decide), and_eq h (c := 43) (by decide) (by decide), and_eq h (c := 45) (by decide) (by decide), and_eq h (c := 42) (by decide) (by decide), and_eq h (c := 47) (by decide) (by decide), and_eq h (c := 61) (by decide) (by decide), and_eq h (c := 58) (by decide) (by decide), and_eq h (c := 60) (by decide) (by decide), and_eq h (c := 62) (by decide) (by decide)]
theorem and_two {x y : Int32} (h : nB x = x) (g : nB y = y) : isTwo (x &&& 255) (y &&& 255) ↔ isTwo x y := by
  unfold isTwo
  simp only [and_eq h (c := 60) (by decide) (by decide), and_eq h (c := 61) (by decide) (by decide), and_eq h (c := 62) (by decide) (by decide), and_eq g (c := 61) (by decide) (by decide), and_eq g (c := 62) (by decide) (by decide)]
theorem t_letter (x : Int32) (σ : TS) : (isLt x ∧ F_isLetter x σ = some (1, σ)) ∨ (¬ isLt x ∧ F_isLetter x σ = some (0, σ)) := by
  unfold F_isLetter isLt
  by_cases h1 : x < 97
  · rw [ifT h1]; right; exact ⟨fun q => absurd q.1 (Int32.not_le.mpr h1), rfl⟩
  · rw [ifF h1]
    by_cases h2 : 122 < x
    · rw [ifT h2]; right; exact ⟨fun q => absurd q.2 (Int32.not_le.mpr h2), rfl⟩
    · rw [ifF h2]; left; exact ⟨⟨Int32.not_lt.mp h1, Int32.not_lt.mp h2⟩, rfl⟩
theorem t_digit (x : Int32) (σ : TS) : (isDt x ∧ F_isDigit x σ = some (1, σ)) ∨ (¬ isDt x ∧ F_isDigit x σ = some (0, σ)) := by
  unfold F_isDigit isDt
  by_cases h1 : x < 48
  · rw [ifT h1]; right; exact ⟨fun q => absurd q.1 (Int32.not_le.mpr h1), rfl⟩
  · rw [ifF h1]
    by_cases h2 : 57 < x
    · rw [ifT h2]; right; exact ⟨fun q => absurd q.2 (Int32.not_le.mpr h2), rfl⟩
    · rw [ifF h2]; left; exact ⟨⟨Int32.not_lt.mp h1, Int32.not_lt.mp h2⟩, rfl⟩
theorem t_white (x : Int32) (σ : TS) : (isWt x ∧ F_isWhite x σ = some (1, σ)) ∨ (¬ isWt x ∧ F_isWhite x σ = some (0, σ)) := by
  unfold F_isWhite isWt
  by_cases h1 : x = 32
  · rw [ifT h1]; exact Or.inl ⟨Or.inl h1, rfl⟩
  rw [ifF h1]
  by_cases h2 : x = 9
  · rw [ifT h2]; exact Or.inl ⟨Or.inr (Or.inl h2), rfl⟩
  rw [ifF h2]
  by_cases h3 : x = 10
  · rw [ifT h3]; exact Or.inl ⟨Or.inr (Or.inr (Or.inl h3)), rfl⟩
  rw [ifF h3]
  by_cases h4 : x = 13
  · rw [ifT h4]; exact Or.inl ⟨Or.inr (Or.inr (Or.inr h4)), rfl⟩
  rw [ifF h4]
  exact Or.inr ⟨fun q => by rcases q with q | q | q | q <;> contradiction, rfl⟩
section TNEXT
variable {σ : TS} {b : Nat → Int32} {len : Nat}
theorem tb_at (T : TapeT σ b len) {k : Nat} (hk : k < 2147483648) : F_byteAt (nI k) σ = some (cB b len k &&& 255, σ) := by
  obtain ⟨h1, h2, h3⟩ := T
  unfold F_byteAt
  rw [h1]
  by_cases h : len ≤ k
  · rw [ifT ((bI_le (by omega) hk).mpr h), cB_0 h]; rfl
  · rw [ifF (by rw [bI_le (by omega) hk]; exact h), ifT (inb_nI' (by omega) (by decide)), ix_nI hk, (h3 k (by omega)).1, cB_lt (by omega)]
theorem tapeT_10 {v : Int32} (T : TapeT σ b len) : TapeT (tsI σ 10 v) b len := by
  obtain ⟨a1, a2, a3⟩ := T
  exact ⟨by rw [tI_tsI, ifF (by decide)]; exact a1, a2, a3⟩
/-- white bytes are passed -/
theorem t_skip : ∀ (d k f : Nat) (σ : TS), len - k = d → d < f → k ≤ len → TapeT σ b len → tI σ 10 = nI k → ∃ s σ', L_next_0 f σ = some ((), σ') ∧ tI σ' 10 = nI s ∧ FN (fun r => r < len ∧ isWt (b r)) k s ∧ s ≤ len ∧ TapeT σ' b len
  | d, k, 0, σ, _, hf, _, _, _ => absurd hf (Nat.not_lt_zero _)
  | 0, k, f + 1, σ, hd, _, hk, T, h10 => by
    have hl := T.2.1
    rw [L_next_0, T.1, h10, ifT ((bI_le (by omega) (by omega)).mpr (by omega))]
    exact ⟨k, σ, rfl, h10, ⟨Nat.le_refl _, fun r h1 h2 => by omega, fun q => by omega⟩, hk, T⟩
  | d + 1, k, f + 1, σ, hd, hf, hk, T, h10 => by
    have hl := T.2.1
    rw [L_next_0, T.1, h10, ifF (by rw [bI_le (by omega) (by omega)]; omega), tb_at T (by omega), ob_some, cB_lt (by omega)]
    have hb := (T.2.2 k (by omega)).2
    rcases t_white (b k &&& 255) σ with ⟨w, e⟩ | ⟨w, e⟩
    · rw [e, ob_some, ifF (by decide), h10, nm_eq, nI_addL]
      obtain ⟨s, σ', a1, a2, ⟨a3, a4, a5⟩, a6, a7⟩ := t_skip d (k + 1) f (tsI σ 10 (nI (k + 1))) (by omega) (by omega) (by omega) (tapeT_10 T) (by rw [tI_tsI, ifT rfl])
      refine ⟨s, σ', a1, a2, ⟨by omega, fun r h1 h2 => ?_, a5⟩, a6, a7⟩
      by_cases er : r = k
      · subst er; exact ⟨by omega, (and_wt hb).mp w⟩
      · exact a4 r (by omega) h2
    · rw [e, ob_some, ifT rfl]
      exact ⟨k, σ, rfl, h10, ⟨Nat.le_refl _, fun r h1 h2 => by omega, fun q => w ((and_wt hb).mpr q.2)⟩, hk, T⟩
/-- where a word ends -/
theorem t_word (T : TapeT σ b len) : ∀ (d k f : Nat), len + 1 - k = d → d < f → k ≤ len + 1 → ∃ q, L_next_102 f (nI k) σ = some (nI q, σ) ∧ FN (fun r => chOK (cB b len r)) k q
  | d, k, 0, _, hf, _ => absurd hf (Nat.not_lt_zero _)
  | d, k, f + 1, hd, hf, hk => by
    have hlen := T.2.1
    have hcb := T.cb k
    have go : chOK (cB b len k) → ∃ q, L_next_102 f (nI (k + 1)) σ = some (nI q, σ) ∧ FN (fun r => chOK (cB b len r)) k q := by
      intro hc
      have hk := ch_lt hc
      match d, hd, hf with
      | 0, hd, _ => omega
      | d + 1, hd, hf =>
        obtain ⟨q, h1, h2, h3, h4⟩ := t_word T d (k + 1) f (by omega) (by omega) (by omega)
        refine ⟨q, h1, by omega, fun r g1 g2 => ?_, h4⟩
        by_cases e : r = k
        · subst e; exact hc
        · exact h3 r (by omega) g2
    rw [L_next_102, tb_at T (by omega), ob_some]
    rcases t_letter (cB b len k &&& 255) σ with ⟨g, e⟩ | ⟨g, e⟩
    · rw [e, ob_some, ifF (by decide), nm_eq, nI_addL]
      exact go (Or.inl ((and_lt hcb).mp g))
    rw [e, ob_some, ifT rfl, tb_at T (by omega), ob_some]
    rcases t_digit (cB b len k &&& 255) σ with ⟨g2, e⟩ | ⟨g2, e⟩
    · rw [e, ob_some, ifF (by decide), nm_eq, nI_addL]
      exact go (Or.inr (Or.inl ((and_dt hcb).mp g2)))
    rw [e, ob_some, ifT rfl, tb_at T (by omega), ob_some]
    by_cases h95 : cB b len k &&& 255 = 95
    · rw [ifT h95, nm_eq, nI_addL]
      exact go (Or.inr (Or.inr ((and_eq hcb (by decide) (by decide)).mp h95)))
    · rw [ifF h95]
      refine ⟨k, rfl, Nat.le_refl _, fun r h1 h2 => by omega, ?_⟩
      rintro (q | q | q)
      · exact g ((and_lt hcb).mpr q)
      · exact g2 ((and_dt hcb).mpr q)
      · exact h95 ((and_eq hcb (by decide) (by decide)).mpr q)
/-- the first eight letters are packed -/
theorem t_pack {s q : Nat} (hq : q ≤ len) : ∀ (d i f : Nat) (σ : TS), min q (s + 8) - i = d → d < f → s ≤ i → i ≤ min q (s + 8) → TapeT σ b len → tI σ 10 = nI s → tL σ 16 = pk b s (i - s) → ∃ σ', L_next_155 f (nI q) (nI i) σ = some ((), σ') ∧ tL σ' 16 = pk b s (min (q - s) 8)
  | d, k, 0, _, _, hf, _, _, _, _, _ => absurd hf (Nat.not_lt_zero _)
  | 0, i, f + 1, σ, hd, _, h1, h2, T, h10, h16 => by
    have hlen := T.2.1
    rw [L_next_155]
    by_cases c1 : q ≤ i
    · rw [ifT ((bI_le (by omega) (by omega)).mpr c1)]
      exact ⟨σ, rfl, by rw [h16]; congr 1; omega⟩
    · rw [ifF (by rw [bI_le (by omega) (by omega)]; exact c1), h10, nI_addL, ifT ((bI_le (by omega) (by omega)).mpr (by omega))]
      exact ⟨σ, rfl, by rw [h16]; congr 1; omega⟩
  | d + 1, i, f + 1, σ, hd, hf, h1, h2, T, h10, h16 => by
    have hlen := T.2.1
    rw [L_next_155, ifF (by rw [bI_le (by omega) (by omega)]; omega), h10, nI_addL, ifF (by rw [bI_le (by omega) (by omega)]; omega), tb_at T (by omega), ob_some, nm_eq, nm_eq, nI_addL]
    refine t_pack hq d (i + 1) f _ (by omega) (by omega) (by omega) (by omega) ?_ ?_ ?_
    · exact T
    · exact h10
    · rw [tL_tsL, ifT rfl, h16, cB_lt (by omega), show i + 1 - s = (i - s) + 1 by omega]
      show _ = (pk b s (i - s) <<< _) ||| _
      rw [show s + (i - s) = i by omega]
theorem t_isLong (T : TapeT σ b len) {s q j J : Nat} (h12 : tI σ 12 = nI s) (h13 : tI σ 13 = nI q) (hs : s ≤ q) (hq : q ≤ len) (hJ : J < 38) (hN : j < tsN) (hl : tslen j = klen J) (hc : ∀ i, i < klen J → tsch j i = kb J i) : (F_isLong j σ = some (1, σ) ∧ isKwB b J s (q - s)) ∨ (F_isLong j σ = some (0, σ) ∧ ¬ isKwB b J s (q - s)) := by
  have hlen := T.2.1
  have hk11 := (klen_le J hJ).1
  have loop : ∀ (d i f : Nat), i + d = klen J → d < f → q - s = klen J → (L_isLong_22 f j (nI (klen J)) (nI i) σ = some (.inl (), σ) ∧ ∀ r, i ≤ r → r < klen J → kb J r = b (s + r)) ∨ (L_isLong_22 f j (nI (klen J)) (nI i) σ = some (.inr 0, σ) ∧ ∃ r, i ≤ r ∧ r < klen J ∧ kb J r ≠ b (s + r)) := by
    intro d
    induction d with
    | zero =>
      intro i f hi hf hq
      obtain ⟨f, rfl⟩ : ∃ f', f = f' + 1 := ⟨f - 1, by omega⟩
      left
      rw [L_isLong_22, ifT ((bI_le (by omega) (by omega)).mpr (by omega))]
      exact ⟨rfl, fun r h1 h2 => by omega⟩
    | succ d ih =>
      intro i f hi hf hq
      obtain ⟨f, rfl⟩ : ∃ f', f = f' + 1 := ⟨f - 1, by omega⟩
      have hb := (T.2.2 (s + i) (by omega)).2
      have hkb := kb_ok J hJ i (by omega)
      have hiff : (b (s + i) &&& 255 = kb J i) ↔ (b (s + i) = kb J i) := and_eq hb (Int32.le_trans (by decide) hkb.2.1) (Int32.le_trans hkb.2.2 (by decide))
      rw [L_isLong_22, ifF (by rw [bI_le (by omega) (by omega)]; omega), h12, bI_add, tb_at T (by omega), ob_some, cB_lt (by omega), ifT ⟨hN, by rw [hl]; exact inb_nI' (by omega) (by omega)⟩, ix_nI (by omega), hc i (by omega)]
      by_cases e : b (s + i) = kb J i
      · rw [ifT (hiff.mpr e), nm_eq, nI_addL]
        rcases ih (i + 1) f (by omega) (by omega) hq with ⟨a, g⟩ | ⟨a, r, g1, g2, g3⟩
        · left
          refine ⟨a, fun r h1 h2 => ?_⟩
          by_cases er : r = i
          · subst er; exact e.symm
          · exact g r (by omega) h2
        · right; exact ⟨a, r, by omega, g2, g3⟩
      · rw [ifF (fun z => e (hiff.mp z))]
        right; exact ⟨rfl, i, Nat.le_refl _, by omega, fun z => e z.symm⟩
  unfold F_isLong
  rw [ifT hN, nm_eq, h12, h13, nI_sub hs, hl]
  by_cases e : q - s = klen J
  · rw [ifT (by rw [e])]
    rcases loop (klen J) 0 FU (by omega) (by show klen J < 4611686018427387904; omega) e with ⟨a, g⟩ | ⟨a, r, g1, g2, g3⟩
    · left
      rw [show (0 : Int32) = nI 0 from rfl, a, obS_inl]
      exact ⟨rfl, e, fun r hr => g r (by omega) (by omega)⟩
    · right
      rw [show (0 : Int32) = nI 0 from rfl, a, obS_inr]
      exact ⟨rfl, fun z => g3 (z.2 r (by omega))⟩
  · right
    rw [ifF (fun z => e ((bI_eq (by omega) (by omega)).mp z))]
    exact ⟨rfl, fun z => e z.1⟩
theorem long_keys : ∀ j, j < 38 → 8 < klen j → j = 1 ∨ j = 5 ∨ j = 10 ∨ j = 11 := by decide +kernel
/-- the twin's token -/
def CurT (σ : TS) (len s e kd : Nat) (wd : Int64) (sg nu wh : Int32) : Prop := tI σ 11 = nI kd ∧ tI σ 12 = nI s ∧ (kd = 1 → tL σ 16 = wd) ∧ (kd = 2 → tI σ 15 = nu ∧ tI σ 17 = wh) ∧ (kd = 3 → tI σ 14 = sg) ∧ ∃ q, q ≤ len ∧ tI σ 10 = nI q ∧ (kd ≠ 4 → q = e)
theorem t_321 {s e kd : Nat} {wd : Int64} {sg nu wh : Int32} (h : CurT σ len s e kd wd sg nu wh) : ∃ σ', J_next_321 σ = some ((), σ') ∧ CurT σ' len s e kd wd sg nu wh := by
  unfold J_next_321
  rw [nm_eq]
  have h' : CurT (tsI σ 13 (tI σ 10)) len s e kd wd sg nu wh := h
  by_cases c : tI (tsI σ 13 (tI σ 10)) 11 = 4
  · rw [ifT c]; exact ⟨_, rfl, h'⟩
  · rw [ifF c]
    by_cases c2 : tI (tsI σ 13 (tI σ 10)) 19 + tI (tsI σ 13 (tI σ 10)) 18 = 6001
    · rw [ifT c2, nm_eq]; exact ⟨_, rfl, h'⟩
    · rw [ifF c2]; exact ⟨_, rfl, h'⟩
/-- digits -/
theorem t_num1 (T : TapeT σ b len) {s : Nat} : ∀ (d k f : Nat) (v : Int64), len + 1 - k = d → d < f → s ≤ k → k ≤ len + 1 → (∀ r, s ≤ r → r < k → isDt (cB b len r)) → (k - s ≤ 5 → v = n64 (dec b s (k - s))) → ∃ q w, L_readNumeral_7 f (nI k) v σ = some ((nI q, w), σ) ∧ k ≤ q ∧ q ≤ len + 1 ∧ (∀ r, s ≤ r → r < q → isDt (cB b len r)) ∧ ¬ isDt (cB b len q) ∧ (q - s ≤ 5 → w = n64 (dec b s (q - s)))
  | d, k, 0, _, _, hf, _, _, _, _ => absurd hf (Nat.not_lt_zero _)
  | d, k, f + 1, v, hd, hf, h1, h3, h4, hv => by
    have hlen := T.2.1
    have hcb := T.cb k
    rw [L_readNumeral_7, tb_at T (by omega), ob_some]
    rcases t_digit (cB b len k &&& 255) σ with ⟨g, e⟩ | ⟨g, e⟩
    · have g' := (and_dt hcb).mp g
      have hk := dt_lt g'
      rw [e, ob_some, ifF (by decide)]
      obtain ⟨d, rfl⟩ : ∃ d', d = d' + 1 := ⟨d - 1, by omega⟩
      have h4' : ∀ r, s ≤ r → r < k + 1 → isDt (cB b len r) := fun r q1 q2 => by
        by_cases er : r = k
        · subst er; exact g'
        · exact h4 r q1 (by omega)
      by_cases c : 0 ≤ lg_cmp v 1000000000
      · rw [ifT c, nm_eq, nI_addL]
        obtain ⟨q, w, a1, a2, a3⟩ := t_num1 (s := s) T d (k + 1) f v (by omega) (by omega) (by omega) (by omega) h4' (fun q => by
          exfalso
          have hv := hv (by omega)
          have hd2 : dec b s (k - s) < 10 ^ (k - s) := dec_lt (fun _ _ => trivial) _ (fun i hi => by have := h4 (s + i) (by omega) (by omega); rw [cB_lt (by omega)] at this; exact this)
          have hp : 10 ^ (k - s) ≤ 10 ^ 4 := Nat.pow_le_pow_right (by decide) (by omega)
          have hp4 : (10 : Nat) ^ 4 = 10000 := by decide
          rw [hv, show (1000000000 : Int64) = n64 1000000000 from rfl] at c
          exact lg_ge.mp c ((n64_lt (by omega) (by decide)).mpr (by omega)))
        exact ⟨q, w, a1, by omega, a3⟩
      · rw [ifF c, tb_at T (by omega), ob_some, nm_eq, nm_eq, nI_addL]
        have hb : nB (b k) = b k := (T.2.2 k hk).2
        have g2 : isDt (b k) := by rw [cB_lt hk] at g'; exact g'
        have e255 : cB b len k &&& 255 = b k := by
          rw [cB_lt hk]
          rcases byte_cases hb with ⟨_, _, q⟩ | ⟨q, _⟩
          · exact q
          · exact absurd (Int32.lt_of_le_of_lt g2.1 q) (by decide)
        rw [e255]
        obtain ⟨q, w, a1, a2, a3⟩ := t_num1 (s := s) T d (k + 1) f (10 * v + (b k).toInt64 - 48) (by omega) (by omega) (by omega) (by omega) h4' (fun q => by
          rw [hv (by omega), (dig_n64 g2 _).1]
          congr 1
          rw [show k + 1 - s = (k - s) + 1 by omega]
          show _ = 10 * dec b s (k - s) + (ix (b (s + (k - s))) - 48)
          rw [show s + (k - s) = k by omega])
        exact ⟨q, w, a1, by omega, a3⟩
    · rw [e, ob_some, ifT rfl]
      exact ⟨k, v, rfl, Nat.le_refl _, h3, h4, fun q => g ((and_dt hcb).mpr q), hv⟩
/-- digits behind the point: the first four count -/
theorem t_num2 (T : TapeT σ b len) {B : Nat} {x4 : Int32} {x5 : Int64} : ∀ (d k f : Nat), len + 1 - k = d → d < f → B ≤ k → k ≤ len + 1 → (∀ r, B ≤ r → r < k → isDt (cB b len r)) → ∃ q, L_readNumeral_119 f (nI k) x4 x5 (nI B) (n64 (dec b B (min (k - B) 4))) (n64 (10 ^ (min (k - B) 4))) σ = some ((nI q, n64 (dec b B (min (q - B) 4)), n64 (10 ^ (min (q - B) 4))), σ) ∧ k ≤ q ∧ q ≤ len + 1 ∧ (∀ r, B ≤ r → r < q → isDt (cB b len r)) ∧ ¬ isDt (cB b len q)
  | d, k, 0, _, hf, _, _, _ => absurd hf (Nat.not_lt_zero _)
  | d, k, f + 1, hd, hf, h1, h3, h4 => by
    have hlen := T.2.1
    have hcb := T.cb k
    rw [L_readNumeral_119, tb_at T (by omega), ob_some]
    rcases t_digit (cB b len k &&& 255) σ with ⟨g, e⟩ | ⟨g, e⟩
    · have g' := (and_dt hcb).mp g
      have hk := dt_lt g'
      rw [e, ob_some, ifF (by decide), nI_sub h1]
      obtain ⟨d, rfl⟩ : ∃ d', d = d' + 1 := ⟨d - 1, by omega⟩
      have h4' : ∀ r, B ≤ r → r < k + 1 → isDt (cB b len r) := fun r q1 q2 => by
        by_cases er : r = k
        · subst er; exact g'
        · exact h4 r q1 (by omega)
      by_cases c : 4 ≤ k - B
      · rw [ifT ((nI_Lle (by omega) (by decide)).mpr c), nm_eq, nI_addL]
        obtain ⟨q, a1, a2, a3⟩ := t_num2 (B := B) (x4 := x4) (x5 := x5) T d (k + 1) f (by omega) (by omega) (by omega) (by omega) h4'
        rw [show min (k + 1 - B) 4 = min (k - B) 4 by omega] at a1
        exact ⟨q, a1, by omega, a3⟩
      · rw [ifF (by rw [nI_Lle (by omega) (by decide)]; exact c), tb_at T (by omega), ob_some, nm_eq, nm_eq, nm_eq, nI_addL]
        have hb : nB (b k) = b k := (T.2.2 k hk).2
        have g2 : isDt (b k) := by rw [cB_lt hk] at g'; exact g'
        have e255 : cB b len k &&& 255 = b k := by
          rw [cB_lt hk]
          rcases byte_cases hb with ⟨_, _, q⟩ | ⟨q, _⟩
          · exact q
          · exact absurd (Int32.lt_of_le_of_lt g2.1 q) (by decide)
        rw [e255, (dig_n64 g2 _).1, show (10 : Int64) = n64 10 from rfl, n64_mul]
        obtain ⟨q, a1, a2, a3⟩ := t_num2 (B := B) (x4 := x4) (x5 := x5) T d (k + 1) f (by omega) (by omega) (by omega) (by omega) h4'
        rw [show min (k + 1 - B) 4 = (k - B) + 1 by omega] at a1
        rw [show min (k - B) 4 = k - B by omega]
        have e2 : 10 * dec b B (k - B) + (ix (b k) - 48) = dec b B (k - B + 1) := by
          show _ = 10 * dec b B (k - B) + (ix (b (B + (k - B))) - 48)
          rw [show B + (k - B) = k by omega]
        rw [e2]
        exact ⟨q, a1, by omega, a3⟩
    · rw [e, ob_some, ifT rfl]
      exact ⟨k, rfl, Nat.le_refl _, h3, h4, fun q => g ((and_dt hcb).mpr q)⟩
theorem frac_ok {v f j : Nat} (hf : f < 10 ^ j) (hj : j ≤ 4) : v * 65536 + f * 65536 / 10 ^ j ≤ 2147418112 ↔ (v < 32767 ∨ v = 32767 ∧ f = 0) := by
  have hlt : f * 65536 / 10 ^ j < 65536 := by
    rw [Nat.div_lt_iff_lt_mul (Nat.pow_pos (by decide))]
    rw [Nat.mul_comm 65536]
    exact Nat.mul_lt_mul_of_pos_right hf (by decide)
  have hz : f * 65536 / 10 ^ j = 0 ↔ f = 0 := by
    constructor
    · intro h
      rw [Nat.div_eq_zero_iff] at h
      have hp : 10 ^ j ≤ 10 ^ 4 := Nat.pow_le_pow_right (by decide) hj
      have hp4 : (10 : Nat) ^ 4 = 10000 := by decide
      have hp0 : 0 < 10 ^ j := Nat.pow_pos (by decide)
      omega
    · intro h; rw [h]; simp
  generalize f * 65536 / 10 ^ j = z at *
  omega
/-- what the token is once its end is known -/
theorem t_224 {k : Nat} {x : Nat} {s : Nat} {wh : Int32} (h12 : tI σ 12 = nI s) (h17 : tI σ 17 = wh) : ∃ σ', J_readNumeral_224 (nI k) (n64 x) 1 σ = some ((), σ') ∧ (k ≤ len → CurT σ' len s k 2 0 0 (nI x) wh) := by
  unfold J_readNumeral_224
  rw [ifF (by decide), nm_eq, ifF (by decide), nm_eq, nm_eq, n64_i32]
  exact ⟨_, rfl, fun hk => ⟨rfl, h12, fun q => absurd q (by decide), fun _ => ⟨rfl, h17⟩, fun q => absurd q (by decide), k, hk, rfl, fun _ => rfl⟩⟩
theorem t_224b {k : Nat} {x5 : Int64} {s : Nat} (h12 : tI σ 12 = nI s) : ∃ σ', J_readNumeral_224 (nI k) x5 0 σ = some ((), σ') ∧ (k ≤ len → CurT σ' len s 0 4 0 0 0 0) := by
  unfold J_readNumeral_224
  rw [ifT rfl, nm_eq, ifT rfl, nm_eq, nm_eq]
  exact ⟨_, rfl, fun hk => ⟨rfl, h12, fun q => absurd q (by decide), fun q => absurd q (by decide), fun q => absurd q (by decide), k, hk, rfl, fun q => absurd rfl q⟩⟩
theorem dec_le5 {s q : Nat} (h : ∀ r, s ≤ r → r < q → isDt (cB b len r)) (h5 : q - s ≤ 5) : dec b s (q - s) < 100000 := by
  have h1 : dec b s (q - s) < 10 ^ (q - s) := dec_lt (fun _ _ => trivial) _ (fun i hi => by
    have g := h (s + i) (by omega) (by omega)
    have := dt_lt g
    rw [cB_lt this] at g; exact g)
  have hp : 10 ^ (q - s) ≤ 10 ^ 5 := Nat.pow_le_pow_right (by decide) h5
  have hp5 : (10 : Nat) ^ 5 = 100000 := by decide
  omega
theorem t_numeral (T : TapeT σ b len) {s : Nat} (h10 : tI σ 10 = nI s) (h12 : tI σ 12 = nI s) (hs : s < len) (hd : isDt (b s)) : ∃ σ' e kd nu wh, F_readNumeral σ = some ((), σ') ∧ (kd = 2 ∨ kd = 4) ∧ NumS b len s e (kd = 2) nu wh ∧ CurT σ' len s e kd 0 0 nu wh := by
  have hlen := T.2.1
  unfold F_readNumeral
  rw [nm_eq, h10]
  obtain ⟨q, w, a1, a2, a3, a4, a5, a6⟩ := t_num1 (s := s) T (len + 1 - s) s FU 0 rfl (by show len + 1 - s < 4611686018427387904; omega) (Nat.le_refl _) (by omega) (fun r h1 h2 => by omega) (fun _ => by rw [Nat.sub_self]; rfl)
  rw [a1, ob_some]
  dsimp only
  have hsq : s < q := by
    rcases Nat.lt_or_ge s q with h | h
    · exact h
    · have : q = s := by omega
      subst this; rw [cB_lt hs] at a5; exact absurd hd a5
  have hql : q ≤ len := by
    rcases Nat.lt_or_ge len q with h | h
    · exact absurd (a4 len (by omega) h) (by rw [cB_0 (Nat.le_refl _)]; exact not_dt0)
    · exact h
  have F1 : FN (fun r => isDt (cB b len r)) s q := ⟨by omega, a4, a5⟩
  rw [h10, nI_sub (by omega)]
  have T1 : TapeT (tsI σ 17 1) b len := by
    obtain ⟨t1, t2, t3⟩ := T
    exact ⟨by rw [tI_tsI, ifF (by decide)]; exact t1, t2, t3⟩
  have hcb := T.cb q
  have hcb1 := T.cb (q + 1)
  -- what comes behind, by whether the whole part fits
  have main : ∀ y : Int32, (y = 0 ∧ 5 < q - s) ∨ (y = 1 ∧ q - s ≤ 5) → ∃ σ' e kd nu wh, J_readNumeral_64 (nI q) w y σ = some ((), σ') ∧ (kd = 2 ∨ kd = 4) ∧ NumS b len s e (kd = 2) nu wh ∧ CurT σ' len s e kd 0 0 nu wh := by
    intro y hy
    have bad205 : ∀ (σ : TS) (k : Nat) (v : Int64), tI σ 12 = nI s → k ≤ len → ∃ σ', J_readNumeral_205 (nI k) 0 v σ = some ((), σ') ∧ CurT σ' len s 0 4 0 0 0 0 := by
      intro σ k v h12 hk
      unfold J_readNumeral_205 J_readNumeral_223
      rw [ifT rfl]
      obtain ⟨σ', c1, c2⟩ := t_224b (len := len) (k := k) (x5 := v) h12
      exact ⟨σ', c1, c2 hk⟩
    unfold J_readNumeral_64
    rw [nm_eq, nm_eq, tb_at T1 (by omega), ob_some]
    by_cases c46 : cB b len q &&& 255 = 46
    · have c46' := (and_eq hcb (by decide) (by decide)).mp c46
      rw [ifT c46, nI_addL, tb_at T1 (by omega), ob_some]
      rcases t_digit (cB b len (q + 1) &&& 255) (tsI σ 17 1) with ⟨g, e⟩ | ⟨g, e⟩
      · have g' := (and_dt hcb1).mp g
        have hq1 := dt_lt g'
        rw [e, ob_some, ifF (by decide), nm_eq, nm_eq]
        have T2 : TapeT (tsI (tsI σ 17 1) 17 0) b len := by
          obtain ⟨t1, t2, t3⟩ := T1
          exact ⟨by rw [tI_tsI, ifF (by decide)]; exact t1, t2, t3⟩
        obtain ⟨p, b1, b2, b3, b4, b5⟩ := t_num2 (B := q + 1) (x4 := y) (x5 := w <<< (((16 : Int32)).toInt64 &&& 63)) T2 (len + 1 - (q + 1)) (q + 1) FU rfl (by show len + 1 - (q + 1) < 4611686018427387904; omega) (Nat.le_refl _) (by omega) (fun r h1 h2 => by omega)
        rw [show min (q + 1 - (q + 1)) 4 = 0 by omega] at b1
        have b1 : L_readNumeral_119 FU (nI (q + 1)) y (w <<< (((16 : Int32)).toInt64 &&& 63)) (nI (q + 1)) 0 1 (tsI (tsI σ 17 1) 17 0) = _ := b1
        rw [b1, ob_some]
        dsimp only
        have hp1 : q + 1 < p := by
          rcases Nat.lt_or_ge (q + 1) p with h | h
          · exact h
          · have : p = q + 1 := by omega
            subst this; exact absurd g' b5
        have hpl : p ≤ len := by
          rcases Nat.lt_or_ge len p with h | h
          · exact absurd (b4 len (by omega) h) (by rw [cB_0 (Nat.le_refl _)]; exact not_dt0)
          · exact h
        have F2 : FN (fun r => isDt (cB b len r)) (q + 1) p := ⟨by omega, b4, b5⟩
        have hpow : 10 ^ min (p - (q + 1)) 4 ≤ 10000 := by
          have : 10 ^ min (p - (q + 1)) 4 ≤ 10 ^ 4 := Nat.pow_le_pow_right (by decide) (by omega)
          exact Nat.le_trans this (by decide)
        have hpow0 : 0 < 10 ^ min (p - (q + 1)) 4 := Nat.pow_pos (by decide)
        have hfd : dec b (q + 1) (min (p - (q + 1)) 4) < 10 ^ (min (p - (q + 1)) 4) := dec_lt (fun _ _ => trivial) _ (fun i hi => by
          have g := b4 (q + 1 + i) (by omega) (by omega)
          have := dt_lt g
          rw [cB_lt this] at g; exact g)
        have hne : ¬ n64 (10 ^ min (p - (q + 1)) 4) = 0 := by
          rw [show (0 : Int64) = n64 0 from rfl, n64_eq (by omega) (by decide)]; omega
        have h12' : tI (tsI (tsI σ 17 1) 17 0) 12 = nI s := h12
        have bad : (5 < q - s ∨ 4 < p - (q + 1)) → ∃ σ' e kd nu wh, J_readNumeral_188 (nI p) (w <<< (((16 : Int32)).toInt64 &&& 63)) (n64 (dec b (q + 1) (min (p - (q + 1)) 4))) (n64 (10 ^ min (p - (q + 1)) 4)) (tsI (tsI σ 17 1) 17 0) = some ((), σ') ∧ (kd = 2 ∨ kd = 4) ∧ NumS b len s e (kd = 2) nu wh ∧ CurT σ' len s e kd 0 0 nu wh := by
          intro hb
          unfold J_readNumeral_188 J_readNumeral_189
          rw [ifT hne, nm_eq]
          obtain ⟨σ', c1, c2⟩ := bad205 _ p _ h12' hpl
          refine ⟨σ', 0, 4, 0, 0, c1, Or.inr rfl, ⟨q, F1, Or.inl ⟨c46', g', p, F2, ?_, fun z => absurd z (by decide)⟩⟩, c2⟩
          constructor
          · intro z; exact absurd z (by decide)
          · intro z; omega
        rcases hy with ⟨rfl, hy⟩ | ⟨rfl, hy⟩
        · rw [ifT rfl]
          exact bad (Or.inl hy)
        · rw [ifF (by decide), nI_sub (by omega)]
          by_cases c4 : 4 < p - (q + 1)
          · rw [ifT ((nI_Llt (by omega) (by decide)).mpr c4)]
            exact bad (Or.inr c4)
          · rw [ifF (by rw [nI_Llt (by omega) (by decide)]; exact c4)]
            unfold J_readNumeral_189
            have hd5 := dec_le5 a4 hy
            have hmin : min (p - (q + 1)) 4 = p - (q + 1) := by omega
            rw [hmin] at hne hfd hpow hpow0 ⊢
            have hdiv : dec b (q + 1) (p - (q + 1)) * 65536 / 10 ^ (p - (q + 1)) ≤ dec b (q + 1) (p - (q + 1)) * 65536 := Nat.div_le_self _ _
            rw [ifT hne, nm_eq, a6 hy, n64_shl (by omega), show (65536 : Int64) = n64 65536 from rfl, n64_mul, n64_div (by omega) (by omega), n64_add]
            unfold J_readNumeral_205
            rw [ifF (by decide), show (2147418112 : Int64) = n64 2147418112 from rfl]
            have hfr := frac_ok (v := dec b s (q - s)) hfd (by omega)
            by_cases cv : dec b s (q - s) * 65536 + dec b (q + 1) (p - (q + 1)) * 65536 / 10 ^ (p - (q + 1)) ≤ 2147418112
            · rw [ifF (by rw [lg_gt, n64_lt (by decide) (by omega)]; omega)]
              obtain ⟨σ', c1, c2⟩ := t_224 (len := len) (k := p) (x := dec b s (q - s) * 65536 + dec b (q + 1) (p - (q + 1)) * 65536 / 10 ^ (p - (q + 1))) (wh := 0) h12' rfl
              exact ⟨σ', p, 2, _, 0, c1, Or.inl rfl, ⟨q, F1, Or.inl ⟨c46', g', p, F2, ⟨fun _ => ⟨hy, by omega, hfr.mp cv⟩, fun _ => rfl⟩, fun _ => ⟨rfl, rfl, rfl⟩⟩⟩, c2 hpl⟩
            · rw [ifT (by rw [lg_gt, n64_lt (by decide) (by omega)]; omega)]
              unfold J_readNumeral_223
              obtain ⟨σ', c1, c2⟩ := t_224b (len := len) (k := p) (x5 := n64 (dec b s (q - s) * 65536 + dec b (q + 1) (p - (q + 1)) * 65536 / 10 ^ (p - (q + 1)))) h12'
              refine ⟨σ', 0, 4, 0, 0, c1, Or.inr rfl, ⟨q, F1, Or.inl ⟨c46', g', p, F2, ⟨fun z => absurd z (by decide), fun z => absurd (hfr.mpr z.2.2) cv⟩, fun z => absurd z (by decide)⟩⟩, c2 hpl⟩
      · rw [e, ob_some, ifT rfl]
        have hno : ¬ (cB b len q = 46 ∧ isDt (cB b len (q + 1))) := fun z => g ((and_dt hcb1).mpr z.2)
        have h12' : tI (tsI σ 17 1) 12 = nI s := h12
        rcases hy with ⟨rfl, hy⟩ | ⟨rfl, hy⟩
        · obtain ⟨σ', c1, c2⟩ := bad205 _ q (w <<< (((16 : Int32)).toInt64 &&& 63)) h12' hql
          exact ⟨σ', 0, 4, 0, 0, c1, Or.inr rfl, ⟨q, F1, Or.inr ⟨hno, ⟨fun z => absurd z (by decide), fun z => by omega⟩, fun z => absurd z (by decide)⟩⟩, c2⟩
        · have hd5 := dec_le5 a4 hy
          unfold J_readNumeral_205
          rw [ifF (by decide), a6 hy, n64_shl (by omega), show (2147418112 : Int64) = n64 2147418112 from rfl]
          by_cases cv : dec b s (q - s) * 65536 ≤ 2147418112
          · rw [ifF (by rw [lg_gt, n64_lt (by decide) (by omega)]; omega)]
            obtain ⟨σ', c1, c2⟩ := t_224 (len := len) (k := q) (x := dec b s (q - s) * 65536) (wh := 1) h12' rfl
            exact ⟨σ', q, 2, _, 1, c1, Or.inl rfl, ⟨q, F1, Or.inr ⟨hno, ⟨fun _ => ⟨hy, by omega⟩, fun _ => rfl⟩, fun _ => ⟨rfl, rfl, rfl⟩⟩⟩, c2 hql⟩
          · rw [ifT (by rw [lg_gt, n64_lt (by decide) (by omega)]; omega)]
            unfold J_readNumeral_223
            obtain ⟨σ', c1, c2⟩ := t_224b (len := len) (k := q) (x5 := n64 (dec b s (q - s) * 65536)) h12'
            exact ⟨σ', 0, 4, 0, 0, c1, Or.inr rfl, ⟨q, F1, Or.inr ⟨hno, ⟨fun z => absurd z (by decide), fun z => by omega⟩, fun z => absurd z (by decide)⟩⟩, c2 hql⟩
    · rw [ifF c46]
      have hno : ¬ (cB b len q = 46 ∧ isDt (cB b len (q + 1))) := fun z => c46 ((and_eq hcb (by decide) (by decide)).mpr z.1)
      have h12' : tI (tsI σ 17 1) 12 = nI s := h12
      rcases hy with ⟨rfl, hy⟩ | ⟨rfl, hy⟩
      · obtain ⟨σ', c1, c2⟩ := bad205 _ q (w <<< (((16 : Int32)).toInt64 &&& 63)) h12' hql
        exact ⟨σ', 0, 4, 0, 0, c1, Or.inr rfl, ⟨q, F1, Or.inr ⟨hno, ⟨fun z => absurd z (by decide), fun z => by omega⟩, fun z => absurd z (by decide)⟩⟩, c2⟩
      · have hd5 := dec_le5 a4 hy
        unfold J_readNumeral_205
        rw [ifF (by decide), a6 hy, n64_shl (by omega), show (2147418112 : Int64) = n64 2147418112 from rfl]
        by_cases cv : dec b s (q - s) * 65536 ≤ 2147418112
        · rw [ifF (by rw [lg_gt, n64_lt (by decide) (by omega)]; omega)]
          obtain ⟨σ', c1, c2⟩ := t_224 (len := len) (k := q) (x := dec b s (q - s) * 65536) (wh := 1) h12' rfl
          exact ⟨σ', q, 2, _, 1, c1, Or.inl rfl, ⟨q, F1, Or.inr ⟨hno, ⟨fun _ => ⟨hy, by omega⟩, fun _ => rfl⟩, fun _ => ⟨rfl, rfl, rfl⟩⟩⟩, c2 hql⟩
        · rw [ifT (by rw [lg_gt, n64_lt (by decide) (by omega)]; omega)]
          unfold J_readNumeral_223
          obtain ⟨σ', c1, c2⟩ := t_224b (len := len) (k := q) (x5 := n64 (dec b s (q - s) * 65536)) h12'
          exact ⟨σ', 0, 4, 0, 0, c1, Or.inr rfl, ⟨q, F1, Or.inr ⟨hno, ⟨fun z => absurd z (by decide), fun z => by omega⟩, fun z => absurd z (by decide)⟩⟩, c2 hql⟩
  by_cases c5 : 5 < q - s
  · rw [ifT ((nI_Llt (by omega) (by decide)).mpr c5)]
    exact main 0 (Or.inl ⟨rfl, c5⟩)
  · rw [ifF (by rw [nI_Llt (by omega) (by decide)]; exact c5)]
    exact main 1 (Or.inr ⟨rfl, by omega⟩)
end TNEXT
