/-! Layer B: the flat model: names of fors and their values, both sides -/
set_option maxRecDepth 100000
/-- the fors that are under way -/
def LpR (C : PC) (M : CM) (σ : TS) (Lp : Nat) : Prop := (mI M 24 1 = nI Lp ∧ tI σ 117 = nI Lp ∧ Lp ≤ 17) ∧ ∀ j, j < Lp → (∃ w, mA M 103 j = nI w ∧ 38 ≤ w ∧ w < 38 + cm C ∧ tB σ 115 j = wc M w) ∧ mA M 104 j = tA σ 116 j ∧ ∃ v, v ≤ 99 ∧ tA σ 116 j = nI v
/-- the value of name w: of the last one that has it, or 0 -/
def LvR (M : CM) (Lp w : Nat) (v : Int32) : Prop := (∃ j, j < Lp ∧ mA M 103 j = nI w ∧ (∀ j', j < j' → j' < Lp → mA M 103 j' ≠ nI w) ∧ v = mA M 104 j) ∨ ((∀ j, j < Lp → mA M 103 j ≠ nI w) ∧ v = 0)
section LOOPV
variable {C : PC} {D D' D2 : FQ} {M M' M1 M2 M3 : CM} {σ σ' σ1 σ2 s : TS} {mss fss : List Nat} {B V I Bm b e f z w q Lp L n : Nat} {P T : Nat → Prop} {v v' x2 x3 x4 : Int32} {cf : Int32 → Int32 → Int32 → Int32 → TS → Option (Int32 × TS)}
theorem LvR.uq (h : LvR M Lp w v) (g : LvR M Lp w v') : v = v' := by
  rcases h with ⟨j, a1, a2, a3, a4⟩ | ⟨a1, a2⟩ <;> rcases g with ⟨j', b1, b2, b3, b4⟩ | ⟨b1, b2⟩
  · have : j = j' := by
      rcases Nat.lt_trichotomy j j' with q | q | q
      · exact absurd b2 (a3 j' q b1)
      · exact q
      · exact absurd a2 (b3 j q a1)
    rw [a4, b4, this]
  · exact absurd a2 (b1 j a1)
  · exact absurd b2 (a1 j' b1)
  · rw [a2, b2]
theorem LvR.le (h : LpR C M σ Lp) (g : LvR M Lp w v) : ∃ n, n ≤ 99 ∧ v = nI n := by
  rcases g with ⟨j, a1, a2, a3, a4⟩ | ⟨a1, a2⟩
  · obtain ⟨-, b1, n, b2, b3⟩ := h.2 j a1
    exact ⟨n, b2, by rw [a4, b1, b3]⟩
  · exact ⟨0, by decide, a2⟩
theorem k_loopV (W : FW C B P mss fss D M σ) (h : LpR C M σ Lp) : ∃ v, K_X0_loopValue (nI w) M = some (v, M) ∧ LvR M Lp w v := by
  obtain ⟨⟨h1, h2, h3⟩, h4⟩ := h
  have fu := FUb
  have loop : ∀ (d f : Nat), d < f → d ≤ Lp → (∀ j, d ≤ j → j < Lp → mA M 103 j ≠ nI w) → (∃ j, j < d ∧ mA M 103 j = nI w ∧ (∀ j', j < j' → j' < Lp → mA M 103 j' ≠ nI w) ∧ KL_X0_loopValue_7 f (nI w) (nI d - 1) M = some (.inr (mA M 104 j), M)) ∨ ((∀ j, j < Lp → mA M 103 j ≠ nI w) ∧ KL_X0_loopValue_7 f (nI w) (nI d - 1) M = some (.inl (), M)) := by
    intro d
    induction d with
    | zero =>
      intro f hf hd hj
      obtain ⟨f, rfl⟩ : ∃ g, f = g + 1 := ⟨f - 1, by omega⟩
      right
      exact ⟨fun j hl => hj j (Nat.zero_le _) hl, by rw [KL_X0_loopValue_7, ifT (show nI 0 - 1 < 0 by decide)]⟩
    | succ d ih =>
      intro f hf hd hj
      obtain ⟨f, rfl⟩ : ∃ g, f = g + 1 := ⟨f - 1, by omega⟩
      have e1 : nI (d + 1) - 1 = nI d := by rw [nI_subL _ _ (by show 1 ≤ d + 1; omega)]; rfl
      have e2 : nI d + (-1) = nI d - 1 := by rw [Int32.sub_eq_add_neg]
      have i17 : inb (nI d) 17 := inb_nI' (by omega) (by decide)
      have x17 : ix (nI d) = d := ix_nI (by omega)
      rw [e1, KL_X0_loopValue_7, ifF (show ¬ nI d < 0 from by rw [nI_ltL (by omega) (by decide)]; exact Nat.not_lt_zero _), ifT i17, x17]
      by_cases y : mA M 103 d = nI w
      · left
        refine ⟨d, Nat.lt_succ_self d, y, fun j' a1 a2 => hj j' (by omega) a2, by rw [ifT y, ifT i17]⟩
      · rw [ifF y, nm_eq, e2]
        rcases ih f (by omega) (by omega) (fun j a1 a2 => by
          by_cases z : j = d
          · rw [z]; exact y
          · exact hj j (by omega) a2) with ⟨j, a1, a2, a3, a4⟩ | ⟨a1, a2⟩
        · exact Or.inl ⟨j, by omega, a2, a3, a4⟩
        · exact Or.inr ⟨a1, a2⟩
  unfold K_X0_loopValue
  rw [h1, nm_eq]
  rcases loop Lp FU (by omega) (Nat.le_refl _) (fun j a1 a2 => by omega) with ⟨j, a1, a2, a3, a4⟩ | ⟨a1, a2⟩
  · exact ⟨_, by rw [a4, obS_inr], Or.inl ⟨j, a1, a2, a3, rfl⟩⟩
  · exact ⟨0, by rw [a2, obS_inl], Or.inr ⟨a1, rfl⟩⟩
theorem lp_eq (hB1 : B ≤ 1280) (W : FW C B P mss fss D M σ) (h : LpR C M σ Lp) {j : Nat} (hj : j < Lp) (hw : w < 38 + cm C) : tB σ 115 j = wc M w ↔ mA M 103 j = nI w := by
  obtain ⟨⟨L, WN0⟩, h1280, hQ⟩ := W.wn hB1
  obtain ⟨⟨w', a1, a2, a3, a4⟩, -⟩ := h.2 j hj
  rw [a4, a1, wc_inj WN0 a3 hw, bI_eq (by omega) (by omega)]
/-- an index, the twin -/
theorem t_indexOf (hB1 : B ≤ 1280) (W : FW C B P mss fss D M σ) (h : LpR C M σ Lp) (hq : q < 7000) (h31 : ¬ tA σ 31 q = 1) (h30 : tB σ 30 q = wc M w) (hw : w < 38 + cm C) : ∃ v, F_indexOf (nI q) σ = some (v + tA σ 32 q, σ) ∧ LvR M Lp w v := by
  have fu := FUb
  have iq : inb (nI q) 7000 := inb_nI' hq (by decide)
  have xq : ix (nI q) = q := ix_nI (by omega)
  obtain ⟨⟨h1, h2, h3⟩, h4⟩ := id h
  have loop : ∀ (d f : Nat), d < f → d ≤ Lp → (∀ j, d ≤ j → j < Lp → mA M 103 j ≠ nI w) → (∃ j, j < d ∧ mA M 103 j = nI w ∧ (∀ j', j < j' → j' < Lp → mA M 103 j' ≠ nI w) ∧ L_indexOf_24 f (nI q) (nI d - 1) σ = some (.inr (tA σ 116 j + tA σ 32 q), σ)) ∨ ((∀ j, j < Lp → mA M 103 j ≠ nI w) ∧ L_indexOf_24 f (nI q) (nI d - 1) σ = some (.inl (), σ)) := by
    intro d
    induction d with
    | zero =>
      intro f hf hd hj
      obtain ⟨f, rfl⟩ : ∃ g, f = g + 1 := ⟨f - 1, by omega⟩
      right
      exact ⟨fun j hl => hj j (Nat.zero_le _) hl, by rw [L_indexOf_24, ifT (show nI 0 - 1 < 0 by decide)]⟩
    | succ d ih =>
      intro f hf hd hj
      obtain ⟨f, rfl⟩ : ∃ g, f = g + 1 := ⟨f - 1, by omega⟩
      have e1 : nI (d + 1) - 1 = nI d := by rw [nI_subL _ _ (by show 1 ≤ d + 1; omega)]; rfl
      have e2 : nI d + (-1) = nI d - 1 := by rw [Int32.sub_eq_add_neg]
      have i20 : inb (nI d) 20 := inb_nI' (by omega) (by decide)
      have x20 : ix (nI d) = d := ix_nI (by omega)
      rw [e1, L_indexOf_24, ifF (show ¬ nI d < 0 from by rw [nI_ltL (by omega) (by decide)]; exact Nat.not_lt_zero _), ifT i20, ifT iq, x20, xq, h30]
      have le := lp_eq hB1 W h (j := d) (by omega) hw
      by_cases y : mA M 103 d = nI w
      · left
        refine ⟨d, Nat.lt_succ_self d, y, fun j' a1 a2 => hj j' (by omega) a2, by rw [ifT (lg_eq.mpr (le.mpr y)), ifT i20, ifT iq]⟩
      · rw [ifF (fun z => y (le.mp (lg_eq.mp z))), nm_eq, e2]
        rcases ih f (by omega) (by omega) (fun j a1 a2 => by
          by_cases z : j = d
          · rw [z]; exact y
          · exact hj j (by omega) a2) with ⟨j, a1, a2, a3, a4⟩ | ⟨a1, a2⟩
        · exact Or.inl ⟨j, by omega, a2, a3, a4⟩
        · exact Or.inr ⟨a1, a2⟩
  unfold F_indexOf
  rw [ifT iq, xq, ifF h31, h2, nm_eq]
  rcases loop Lp FU (by omega) (Nat.le_refl _) (fun j a1 a2 => by omega) with ⟨j, a1, a2, a3, a4⟩ | ⟨a1, a2⟩
  · exact ⟨tA σ 116 j, by rw [a4, obS_inr], Or.inl ⟨j, a1, a2, a3, (h4 j a1).2.1.symm⟩⟩
  · exact ⟨0, by rw [a2, obS_inl, ifT iq, Int32.zero_add], Or.inr ⟨a1, rfl⟩⟩
/-- a name of a for in an expression, the twin -/
theorem t_b248 (hB1 : B ≤ 1280) (W : FW C B P mss fss D M σ) (h : LpR C M σ Lp) (hn : n < 9000) (h25 : tA σ 25 n = nI q) (hq : q < 7000) (h29 : tB σ 29 q = wc M w) (hw : w < 38 + cm C) : ∃ v, L_build_248 cf FU (nI n) 0 0 σ = some (v, σ) ∧ LvR M Lp w v := by
  have fu := FUb
  have iq : inb (nI q) 7000 := inb_nI' hq (by decide)
  have xq : ix (nI q) = q := ix_nI (by omega)
  have iN : inb (nI n) 9000 := inb_nI' hn (by decide)
  have xN : ix (nI n) = n := ix_nI (by omega)
  obtain ⟨⟨h1, h2, h3⟩, h4⟩ := id h
  have loop : ∀ (d pos f : Nat) (x : Int32), pos + d = Lp → d < f → (∃ j, pos ≤ j ∧ j < Lp ∧ mA M 103 j = nI w ∧ (∀ j', j < j' → j' < Lp → mA M 103 j' ≠ nI w) ∧ L_build_248 cf f (nI n) x (nI pos) σ = some (tA σ 116 j, σ)) ∨ ((∀ j, pos ≤ j → j < Lp → mA M 103 j ≠ nI w) ∧ L_build_248 cf f (nI n) x (nI pos) σ = some (x, σ)) := by
    intro d
    induction d with
    | zero =>
      intro pos f x hp hf
      obtain ⟨f, rfl⟩ : ∃ g, f = g + 1 := ⟨f - 1, by omega⟩
      right
      exact ⟨fun j a1 a2 => by omega, by rw [L_build_248, h2, ifT ((bI_le (by omega) (by omega)).mpr (by omega))]⟩
    | succ d ih =>
      intro pos f x hp hf
      obtain ⟨f, rfl⟩ : ∃ g, f = g + 1 := ⟨f - 1, by omega⟩
      have i20 : inb (nI pos) 20 := inb_nI' (by omega) (by decide)
      have x20 : ix (nI pos) = pos := ix_nI (by omega)
      rw [L_build_248, h2, ifF (fun z => by have := (bI_le (by omega) (by omega)).mp z; omega), ifT i20, ifT iN, xN, h25, ifT iq, xq, x20, h29]
      have le := lp_eq hB1 W h (j := pos) (by omega) hw
      by_cases y : mA M 103 pos = nI w
      · rw [ifT (lg_eq.mpr (le.mpr y)), ifT i20, nm_eq, nI_addL, nm_eq]
        rcases ih (pos + 1) f (tA σ 116 pos) (by omega) (by omega) with ⟨j, a1, a2, a3, a4, a5⟩ | ⟨a1, a2⟩
        · exact Or.inl ⟨j, by omega, a2, a3, a4, a5⟩
        · exact Or.inl ⟨pos, Nat.le_refl _, by omega, y, fun j' b1 b2 => a1 j' (by omega) b2, a2⟩
      · rw [ifF (fun z => y (le.mp (lg_eq.mp z))), nI_addL, nm_eq]
        rcases ih (pos + 1) f x (by omega) (by omega) with ⟨j, a1, a2, a3, a4, a5⟩ | ⟨a1, a2⟩
        · exact Or.inl ⟨j, by omega, a2, a3, a4, a5⟩
        · refine Or.inr ⟨fun j b1 b2 => ?_, a2⟩
          by_cases z : j = pos
          · rw [z]; exact y
          · exact a1 j (by omega) b2
  rcases loop Lp 0 FU 0 (by omega) (by omega) with ⟨j, a1, a2, a3, a4, a5⟩ | ⟨a1, a2⟩
  · exact ⟨tA σ 116 j, a5, Or.inl ⟨j, a2, a3, a4, (h4 j a2).2.1.symm⟩⟩
  · exact ⟨0, a2, Or.inr ⟨fun j b => a1 j (Nat.zero_le _) b, rfl⟩⟩
end LOOPV
