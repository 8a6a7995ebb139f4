/-! Layer B: the flat model: which class is meant, both sides -/
set_option maxRecDepth 100000
/-- the twin looks up a name -/
def thC (v : Int64) (σ : TS) : Option (Int32 × TS) := ob (F_classOf v σ) fun r28 s27 =>
  if r28 < 0 then some ((-1), s27)
  else
    if inb r28 24 then
    if tA s27 44 (ix r28) = 0 then some (r28, s27) else some ((-1), s27)
    else none
/-- a name's byte -/
def gc (b : Nat → Int32) (i : Nat) : Prop := isLt (b i) ∨ (i ≠ 0 ∧ chOK (b i))
section CLASSW
variable {C : PC} {D : FQ} {M : CM} {σ s : TS} {mss fss : List Nat} {B w n len m L k i : Nat} {P : Nat → Prop} {b c : Nat → Int32} {x : Int64}
theorem t_classNo (h49 : tI σ 49 = nI n) (hn : n ≤ 24) (h : ∀ c, c < n → tB σ 41 c ≠ x) : F_classOf x σ = some (-1, σ) := by
  have loop : ∀ (d k f : Nat), k + d = n → d < f → L_classOf_2 f x (nI k) σ = some (.inl (), σ) := by
    intro d
    induction d with
    | zero =>
      intro k f hk hf
      obtain ⟨f, rfl⟩ : ∃ g, f = g + 1 := ⟨f - 1, by omega⟩
      rw [L_classOf_2, h49, ifT ((bI_le (by omega) (by omega)).mpr (by omega))]
    | succ d ih =>
      intro k f hk hf
      obtain ⟨f, rfl⟩ : ∃ g, f = g + 1 := ⟨f - 1, by omega⟩
      rw [L_classOf_2, h49, ifF (fun z => by have := (bI_le (by omega) (by omega)).mp z; omega), ifT (inb_nI' (by omega) (by decide)), ix_nI (by omega), ifF (fun z => h k (by omega) (lg_eq.mp z)), nm_eq, nI_addL]
      exact ih (k + 1) f (by omega) (by omega)
  unfold F_classOf
  have hFU : n < FU := by have := FUb; omega
  rw [show L_classOf_2 FU x 0 σ = some (.inl (), σ) from loop n 0 FU (Nat.zero_add _) hFU, obS_inl]
theorem px_dig : ∀ n, px b 0 n = px c 0 n → ∀ i, i < n → by8 (b i) = by8 (c i)
  | 0, _, i, h => absurd h (Nat.not_lt_zero _)
  | n + 1, e, i, h => by
    have h1 := by8_lt (b (0 + n))
    have h2 := by8_lt (c (0 + n))
    have e : px b 0 n * 256 + by8 (b (0 + n)) = px c 0 n * 256 + by8 (c (0 + n)) := e
    have e1 : px b 0 n = px c 0 n := by omega
    by_cases q : i = n
    · subst q
      rw [Nat.zero_add] at e h1 h2
      omega
    · exact px_dig n e1 i (by omega)
theorem gc_ch (h : gc b i) : chOK (b i) := by
  rcases h with h | h
  · exact Or.inl h
  · exact h.2
theorem t_nameLoop (T : TapeT σ b len) (h8 : len ≤ 8) : ∀ (d k f : Nat), k + d = len → d < f → ((∀ i, k ≤ i → i < len → gc b i) ∧ L_theClass_23 f (pk b 0 k) (nI k) σ = some (.inl (pk b 0 len), σ)) ∨ ((∃ i, k ≤ i ∧ i < len ∧ ¬ gc b i) ∧ L_theClass_23 f (pk b 0 k) (nI k) σ = some (.inr (-1), σ)) := by
  intro d
  induction d with
  | zero =>
    intro k f hk hf
    obtain ⟨f, rfl⟩ : ∃ g, f = g + 1 := ⟨f - 1, by omega⟩
    obtain rfl : k = len := by omega
    exact Or.inl ⟨fun i h1 h2 => by omega, by rw [L_theClass_23, T.1, ifT ((bI_le (by omega) (by omega)).mpr (Nat.le_refl _))]⟩
  | succ d ih =>
    intro k f hk hf
    obtain ⟨f, rfl⟩ : ∃ g, f = g + 1 := ⟨f - 1, by omega⟩
    obtain ⟨t1, t2⟩ := T.2.2 k (by omega)
    have lt : ¬ nI len ≤ nI k := fun z => by have := (bI_le (by omega) (by omega)).mp z; omega
    have hby : F_byteAt (nI k) σ = some (b k &&& 255, σ) := by
      rw [F_byteAt, T.1, ifF lt, ifT (inb_nI' (by omega) (by decide)), ix_nI (by omega), t1]
    have ep : pk b 0 (k + 1) = (pk b 0 k <<< (((8 : Int32)).toInt64 &&& 63)) ||| (((b k) &&& 255).toInt64) := by
      show (pk b 0 k <<< (((8 : Int32)).toInt64 &&& 63)) ||| (((b (0 + k)) &&& 255).toInt64) = _
      rw [Nat.zero_add]
    have nx : gc b k → (((∀ i, k ≤ i → i < len → gc b i) ∧ L_theClass_23 f (pk b 0 (k + 1)) (nI (k + 1)) σ = some (.inl (pk b 0 len), σ)) ∨ ((∃ i, k ≤ i ∧ i < len ∧ ¬ gc b i) ∧ L_theClass_23 f (pk b 0 (k + 1)) (nI (k + 1)) σ = some (.inr (-1), σ))) := fun hg => by
      rcases ih (k + 1) f (by omega) (by omega) with ⟨a1, a2⟩ | ⟨⟨i, i1, i2, i3⟩, a2⟩
      · refine Or.inl ⟨fun i h1 h2 => ?_, a2⟩
        by_cases q : i = k
        · rw [q]; exact hg
        · exact a1 i (by omega) h2
      · exact Or.inr ⟨⟨i, by omega, i2, i3⟩, a2⟩
    have st : L_theClass_23 (f + 1) (pk b 0 k) (nI k) σ = ob (F_isLetter (b k &&& 255) σ) fun r6 s5 => if r6 = 0 then (if nI k = 0 then some (.inr (-1), s5) else ob (F_isDigit (b k &&& 255) s5) fun r12 s11 => if r12 = 0 then (if (b k &&& 255) = 95 then L_theClass_23 f (pk b 0 (k + 1)) (nI (k + 1)) s11 else some (.inr (-1), s11)) else L_theClass_23 f (pk b 0 (k + 1)) (nI (k + 1)) s11) else L_theClass_23 f (pk b 0 (k + 1)) (nI (k + 1)) s5 := by
      rw [L_theClass_23, T.1, ifF lt, hby, ob_some]
      simp only [nm_eq, nI_addL, ← ep]
    rw [st]
    rcases t_letter (b k &&& 255) σ with ⟨l1, l2⟩ | ⟨l1, l2⟩
    · rw [l2, ob_some, ifF (show ¬ (1 : Int32) = 0 by decide)]
      exact nx (Or.inl ((and_lt t2).mp l1))
    · rw [l2, ob_some, ifT (rfl : (0 : Int32) = 0)]
      have nl : ¬ isLt (b k) := fun z => l1 ((and_lt t2).mpr z)
      by_cases q : k = 0
      · rw [ifT (show nI k = 0 by rw [q]; rfl)]
        refine Or.inr ⟨⟨k, Nat.le_refl _, by omega, fun z => ?_⟩, rfl⟩
        rcases z with z | z
        · exact nl z
        · exact z.1 q
      · rw [ifF (show ¬ nI k = 0 from fun z => q ((bI_eq (b := 0) (by omega) (by decide)).mp z))]
        rcases t_digit (b k &&& 255) σ with ⟨d1, d2⟩ | ⟨d1, d2⟩
        · rw [d2, ob_some, ifF (show ¬ (1 : Int32) = 0 by decide)]
          exact nx (Or.inr ⟨q, Or.inr (Or.inl ((and_dt t2).mp d1))⟩)
        · rw [d2, ob_some, ifT (rfl : (0 : Int32) = 0)]
          by_cases u : (b k &&& 255) = 95
          · rw [ifT u]
            exact nx (Or.inr ⟨q, Or.inr (Or.inr ((and_eq t2 (by decide) (by decide)).mp u))⟩)
          · rw [ifF u]
            refine Or.inr ⟨⟨k, Nat.le_refl _, by omega, fun z => ?_⟩, rfl⟩
            rcases z with z | ⟨-, z | z | z⟩
            · exact nl z
            · exact nl z
            · exact d1 ((and_dt t2).mpr z)
            · exact u ((and_eq t2 (by decide) (by decide)).mpr z)
/-- the word that stands on the tape, both sides -/
theorem z_word (hB1 : B ≤ 1280) (W : FW C B P mss fss D M σ) (Tk : TapeK M b len) (hT : TapeT σ b len) (h1 : 1 ≤ len) : ∃ w, K_X1_of 2 0 (nI len) 0 M = some (w, M) ∧ ((∃ k, k < cm C ∧ w = nI (38 + k) ∧ F_theClass σ = thC (wc M (38 + k)) σ) ∨ ((w = -1 ∨ ∃ j, j < 38 ∧ w = nI j) ∧ F_theClass σ = some (-1, σ))) := by
  obtain ⟨⟨K0, ⟨L, WN0⟩, -, -, h2, -⟩, ⟨-, -, -, c4⟩, -⟩ := id W.1
  have h1280 : cm C ≤ 1280 := by omega
  have H : CnR (cm C) M σ mss := by
    obtain ⟨-, -, -, -, ⟨⟨m24, t49⟩, -⟩, hC, -⟩ := id W.1
    exact hC.cn t49 m24
  have h2000 := Tk.2.1
  have nw : ∀ j, j < cm C → nmOK (mL M (mR M 201 4) j) := WN0.2.2.2.2.2.2.2.2.1
  have n1 : ¬ tI σ 8 < 1 := by
    rw [hT.1, show (1 : Int32) = nI 1 from rfl, bI_lt (by omega) (by decide)]
    omega
  have t9 : 8 < len → F_theClass σ = some (-1, σ) := fun h => by
    rw [F_theClass, ifF n1, ifF (by rw [hT.1, show (8 : Int32) = nI 8 from rfl, bI_le (by omega) (by decide)]; omega)]
  have t8 : len ≤ 8 → F_theClass σ = obS (L_theClass_23 FU (pk b 0 0) (nI 0) σ) (fun r35 s25 => some (r35, s25)) fun q24 s25 => thC q24 s25 := fun h => by
    rw [F_theClass, ifF n1, ifT (by rw [hT.1, show (8 : Int32) = nI 8 from rfl, bI_le (by omega) (by decide)]; omega)]
    rfl
  have hFU : len < FU := by have := FUb; omega
  have no : len ≤ 8 → (∀ i, i < len → gc b i) → (∀ k, k < cm C → mL M (mR M 201 4) k ≠ pk b 0 len) → F_classOf (pk b 0 len) σ = some (-1, σ) := fun _ _ hk => t_classNo H.1 H.2.1 (fun c hc z => by
    obtain ⟨-, -, w, w1, w2, w3, w4⟩ := H.2.2 c hc
    rw [w4] at z
    unfold wc at z
    rw [ifF (by omega)] at z
    exact hk (w - 38) (by omega) z)
  have fin : len ≤ 8 → (∀ k, k < cm C → (∀ i, i < len → gc b i) → mL M (mR M 201 4) k ≠ pk b 0 len) → F_theClass σ = some (-1, σ) := fun h hk => by
    rw [t8 h]
    rcases t_nameLoop hT h len 0 FU (Nat.zero_add _) hFU with ⟨a1, a2⟩ | ⟨-, a2⟩
    · rw [a2, obS_inl, thC, no h (fun i hi => a1 i (Nat.zero_le _) hi) (fun k k1 => hk k k1 (fun i hi => a1 i (Nat.zero_le _) hi)), ob_some, ifT (by decide)]
    · rw [a2, obS_inr]
  rcases k_of Tk K0 WN0 h2 (s := 0) (n := len) (by omega) 0 with ⟨j, j1, j2, j3⟩ | ⟨nk, ⟨n8, e⟩ | ⟨n8, ⟨k, k1, k2, k3, k4⟩ | ⟨hno, e⟩⟩⟩
  · refine ⟨nI j, j3, Or.inr ⟨Or.inr ⟨j, j1, rfl⟩, ?_⟩⟩
    by_cases q : len ≤ 8
    · exact fin q (fun k hk _ z => (nw k hk).2 j j1 (by rw [z]; exact kw_kco j1 q j2))
    · exact t9 (by omega)
  · exact ⟨-1, e, Or.inr ⟨Or.inl rfl, t9 n8⟩⟩
  · refine ⟨nI (38 + k), k4, Or.inl ⟨k, k1, rfl, ?_⟩⟩
    have ew : wc M (38 + k) = pk b 0 len := by
      unfold wc
      rw [ifF (by omega), show 38 + k - 38 = k by omega]
      exact k2
    obtain ⟨⟨n', c, p1, p2, p3, p4, p5⟩, -⟩ := nw k k1
    have cn0 : ∀ i, i < n' → by8 (c (0 + i)) ≠ 0 := fun i hi => by rw [Nat.zero_add]; exact (ch_by8 (p3 i hi)).2.1
    have el : n' = len := by
      rw [← k2, p5, u64_pk _ _ _ p2, dg_px n' 8 p2 cn0] at k3
      exact k3
    subst el
    have ex : px b 0 n' = px c 0 n' := by
      rw [← u64_pk b 0 n' n8, ← u64_pk c 0 n' p2, ← k2, p5]
    have eb : ∀ i, i < n' → b i = c i := fun i hi => by
      have h8 := px_dig n' ex i hi
      have hb := (hT.2.2 i hi).2
      have hc := ch_by8 (p3 i hi)
      have a1 : b i &&& 255 = c i := by rw [and255_nI, h8]; exact hc.2.2.2
      obtain ⟨q, q1, q2, q3⟩ := ch_nI (p3 i hi)
      rw [q1] at a1 ⊢
      refine (and_eq hb ?_ ?_).mp a1
      · rw [show (0 : Int32) = nI 0 from rfl, bI_le (by decide) (by omega)]; omega
      · rw [show (127 : Int32) = nI 127 from rfl, bI_le (by omega) (by decide)]; omega
    rw [t8 n8, ew]
    rcases t_nameLoop hT n8 n' 0 FU (Nat.zero_add _) hFU with ⟨-, a2⟩ | ⟨⟨i, -, i2, i3⟩, -⟩
    · rw [a2, obS_inl]
    · refine absurd ?_ i3
      unfold gc
      rw [eb i i2]
      by_cases q : i = 0
      · rw [q]; exact Or.inl p4
      · exact Or.inr ⟨q, p3 i i2⟩
  · refine ⟨-1, by rw [show K_X1_of 2 0 (nI len) 0 M = _ from e, ifT rfl], Or.inr ⟨Or.inl rfl, fin n8 (fun k hk hg z => hno k hk ⟨z, ?_⟩)⟩⟩
    rw [u64_pk _ _ _ n8]
    exact dg_px len 8 n8 (fun i hi => by rw [Nat.zero_add]; exact (ch_by8 (gc_ch (hg i hi))).2.1)
end CLASSW
