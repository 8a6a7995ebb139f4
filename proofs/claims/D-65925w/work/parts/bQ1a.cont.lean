/-! Layer B: the twin's whens share out the actions in order -/
set_option maxRecDepth 100000
/-- actions are shared out in order -/
def WcS (σ : TS) (A Wn : Nat) : Prop := ∃ F : Nat → Nat, F 0 = 0 ∧ F Wn = A ∧ ∀ k, k < Wn → tA σ 146 k = nI (F k) ∧ F k ≤ F (k + 1) ∧ tA σ 147 k = nI (F (k + 1) - F k)
def Wc (σ : TS) : Prop := ∃ A Wn, tI σ 152 = nI A ∧ tI σ 148 = nI Wn ∧ A ≤ 200 ∧ Wn ≤ 12 ∧ WcS σ A Wn
def Wx (σ : TS) : Prop := tI σ 0 ≠ 0 ∨ Wc σ
/-- while a when is made -/
def WL (Wn A0 : Nat) (F : Nat → Nat) (σ : TS) : Prop := tI σ 148 = nI (Wn + 1) ∧ (∃ A, tI σ 152 = nI A ∧ A0 ≤ A ∧ A ≤ 200) ∧ tA σ 146 Wn = nI A0 ∧ ∀ k, k < Wn → tA σ 146 k = nI (F k) ∧ F k ≤ F (k + 1) ∧ tA σ 147 k = nI (F (k + 1) - F k)
section CONT
variable {σ σ' s s' : TS} {S : List Nat} {Wn A0 A n : Nat} {F : Nat → Nat} {x1 x2 x3 x4 x5 r : Int32} {α β : Type}
theorem ob_e {γ : Type} {o : Option (α × γ)} {k : α → γ → Option β} {x : β} (h : ob o k = some x) : ∃ a t, o = some (a, t) ∧ k a t = some x := by
  cases o with
  | none => cases h
  | some p => exact ⟨p.1, p.2, rfl, h⟩
theorem if_e {c : Prop} [Decidable c] {a : Option β} {x : β} (h : (if c then a else none) = some x) : c ∧ a = some x := by
  by_cases q : c
  · rw [ifT q] at h; exact ⟨q, h⟩
  · rw [ifF q] at h; cases h
theorem ob_bad {k : Int32 → TS → Option β} {x : β} (h : ob (F_isBad σ) k = some x) : ∃ r, (r = 0 ↔ tI σ 0 = 0) ∧ k r σ = some x := by
  by_cases q : tI σ 0 = 0
  · rw [t_isBad0 q] at h; exact ⟨0, ⟨fun _ => q, fun _ => rfl⟩, h⟩
  · rw [t_isBad1 q] at h; exact ⟨1, ⟨fun z => absurd z (by decide), fun z => absurd z q⟩, h⟩
theorem bad_e {u : Unit} (hr : r ≠ 0) (h : F_bad r x1 σ = some (u, s)) : tI s 0 ≠ 0 ∧ Ft [0, 1] σ s := by
  unfold F_bad at h
  by_cases q : tI σ 0 = 0
  · rw [ifT q, nm_eq, nm_eq] at h
    cases h
    exact ⟨hr, ((Ft.rf _ σ).p_tsI rfl).p_tsI rfl⟩
  · rw [ifF q] at h
    cases h
    exact ⟨q, Ft.rf _ σ⟩
theorem WcS.ft (h : WcS σ A Wn) (f : Ft S σ s) (hS : [146, 147].all (fun k => !S.contains k) = true) : WcS s A Wn := by
  have hf : ∀ k, k ∈ [146, 147] → S.contains k = false := fun k hk => by simpa using List.all_eq_true.mp hS k hk
  obtain ⟨F, h1, h2, h3⟩ := h
  refine ⟨F, h1, h2, fun k hk => ?_⟩
  rw [(f 146 (hf 146 (by decide))).2.2.1, (f 147 (hf 147 (by decide))).2.2.1]
  exact h3 k hk
theorem Wc.ft (h : Wc σ) (f : Ft S σ s) (hS : [146, 147, 148, 152].all (fun k => !S.contains k) = true) : Wc s := by
  have hf : ∀ k, k ∈ [146, 147, 148, 152] → S.contains k = false := fun k hk => by simpa using List.all_eq_true.mp hS k hk
  obtain ⟨A, Wn, h1, h2, h3, h4, h5⟩ := h
  exact ⟨A, Wn, (f 152 (hf 152 (by decide))).1.trans h1, (f 148 (hf 148 (by decide))).1.trans h2, h3, h4, h5.ft f (by
    simp only [List.all_cons, List.all_nil, Bool.and_eq_true, Bool.and_true]
    rw [hf 146 (by decide), hf 147 (by decide)]; exact ⟨rfl, rfl⟩)⟩
theorem WL.ft (h : WL Wn A0 F σ) (f : Ft S σ s) (hS : [146, 147, 148, 152].all (fun k => !S.contains k) = true) : WL Wn A0 F s := by
  have hf : ∀ k, k ∈ [146, 147, 148, 152] → S.contains k = false := fun k hk => by simpa using List.all_eq_true.mp hS k hk
  obtain ⟨h1, ⟨A, h2, h3⟩, h4, h5⟩ := h
  refine ⟨(f 148 (hf 148 (by decide))).1.trans h1, ⟨A, (f 152 (hf 152 (by decide))).1.trans h2, h3⟩, ((f 146 (hf 146 (by decide))).2.2.1 Wn).trans h4, fun k hk => ?_⟩
  rw [(f 146 (hf 146 (by decide))).2.2.1, (f 147 (hf 147 (by decide))).2.2.1]
  exact h5 k hk
/-- what the loop over actions leaves -/
def WR (Wn A0 : Nat) (F : Nat → Nat) (q : Unit ⊕ Unit) (s : TS) : Prop := (q = .inl () → WL Wn A0 F s) ∧ (q = .inr () → tI s 0 ≠ 0)
theorem w_229 {rec : Int32 → Int32 → Int32 → TS → Option ((Unit ⊕ Unit) × TS)} {q : Unit ⊕ Unit} (hrec : ∀ x2 x3 x4 σ q s, WL Wn A0 F σ → rec x2 x3 x4 σ = some (q, s) → WR Wn A0 F q s) (h : WL Wn A0 F σ) (e : J_when_229_69 rec x2 x3 x4 x5 σ = some (q, s)) : WR Wn A0 F q s := by
  unfold J_when_229_69 at e
  obtain ⟨-, e⟩ := if_e e
  obtain ⟨r1, s1, e1, e⟩ := ob_e e
  have h1 := h.ft (fS_F_build _ _ _ _ _ _ _ e1) (by decide)
  obtain ⟨r2, b2, e⟩ := ob_bad e
  by_cases z : r2 = 0
  · rw [ifT z] at e
    obtain ⟨-, e⟩ := if_e e
    obtain ⟨i1, e⟩ := if_e e
    rw [nm_eq] at e
    obtain ⟨-, e⟩ := if_e e
    rw [nm_eq] at e
    obtain ⟨-, e⟩ := if_e e
    rw [nm_eq, nm_eq] at e
    obtain ⟨-, e⟩ := if_e e
    rw [nm_eq] at e
    refine hrec _ _ _ _ _ _ ?_ e
    obtain ⟨w1, ⟨A, w2, w3, w4⟩, w5, w6⟩ := h1
    have iA : A < 200 := by
      rw [w2] at i1
      exact (inb_nI (by omega)).mp i1
    refine ⟨w1, ⟨A + 1, ?_, by omega, by omega⟩, w5, w6⟩
    show tI s1 152 + 1 = nI (A + 1)
    rw [w2]; exact nI_addL A 1
  · rw [ifF z] at e
    cases e
    exact ⟨fun y => (by cases y), fun _ y => z (b2.mpr y)⟩
theorem w_200 {rec : Int32 → Int32 → Int32 → TS → Option ((Unit ⊕ Unit) × TS)} {q : Unit ⊕ Unit} (hrec : ∀ x2 x3 x4 σ q s, WL Wn A0 F σ → rec x2 x3 x4 σ = some (q, s) → WR Wn A0 F q s) (h : WL Wn A0 F σ) (e : J_when_200_69 rec x2 x3 x4 x5 σ = some (q, s)) : WR Wn A0 F q s := by
  unfold J_when_200_69 at e
  obtain ⟨-, e⟩ := if_e e
  by_cases z : tA σ 66 (ix x4) = 7
  · rw [ifT z] at e
    obtain ⟨-, e⟩ := if_e e
    by_cases y : tA σ 94 (ix x5) = 0
    · rw [ifT y] at e; exact w_229 hrec h e
    · rw [ifF y] at e
      obtain ⟨r1, s1, e1, e⟩ := ob_e e
      exact w_229 hrec (h.ft (bad_e (by decide) e1).2 (by decide)) e
  · rw [ifF z] at e; exact w_229 hrec h e
theorem w_151 {rec : Int32 → Int32 → Int32 → TS → Option ((Unit ⊕ Unit) × TS)} {q : Unit ⊕ Unit} (hrec : ∀ x2 x3 x4 σ q s, WL Wn A0 F σ → rec x2 x3 x4 σ = some (q, s) → WR Wn A0 F q s) (h : WL Wn A0 F σ) (e : J_when_151_69 rec x2 x3 x4 x5 σ = some (q, s)) : WR Wn A0 F q s := by
  unfold J_when_151_69 at e
  obtain ⟨r1, s1, e1, e⟩ := ob_e e
  exact w_200 hrec (h.ft (fS_L_when_154 _ _ _ _ _ _ _ _ _ e1) (by decide)) e
theorem w_69 : ∀ (n : Nat) (x2 x3 x4 : Int32) (σ : TS) (q : Unit ⊕ Unit) (s : TS), WL Wn A0 F σ → L_when_69 n x2 x3 x4 σ = some (q, s) → WR Wn A0 F q s := by
  intro n
  induction n with
  | zero => intro x2 x3 x4 σ q s _ e; cases e
  | succ n ih =>
    intro x2 x3 x4 σ q s h e
    rw [L_when_69] at e
    by_cases z : x4 = 0
    · rw [ifT z] at e; cases e
      exact ⟨fun _ => h, fun y => by cases y⟩
    · rw [ifF z] at e
      obtain ⟨r1, b1, e⟩ := ob_bad e
      by_cases z1 : r1 = 0
      · rw [ifT z1] at e
        by_cases z2 : tI σ 152 = 200
        · rw [ifT z2] at e
          obtain ⟨r2, s2, e2, e⟩ := ob_e e
          cases e
          exact ⟨fun y => (by cases y), fun _ => (bad_e (by decide) e2).1⟩
        · rw [ifF z2] at e
          obtain ⟨-, e⟩ := if_e e
          obtain ⟨r2, s2, e2, e⟩ := ob_e e
          have h2 := h.ft (fS_F_variableOf _ _ _ _ _ e2) (by decide)
          obtain ⟨r3, b3, e⟩ := ob_bad e
          by_cases z3 : r3 = 0
          · rw [ifT z3] at e
            obtain ⟨-, e⟩ := if_e e
            by_cases z4 : tA s2 66 (ix x4) = 6
            · rw [ifT z4] at e
              obtain ⟨-, e⟩ := if_e e
              by_cases z5 : tA s2 94 (ix r2) = 2
              · rw [ifT z5] at e; exact w_151 ih h2 e
              · rw [ifF z5] at e
                obtain ⟨r4, s4, e4, e⟩ := ob_e e
                exact w_151 ih (h2.ft (bad_e (by decide) e4).2 (by decide)) e
            · rw [ifF z4] at e; exact w_200 ih h2 e
          · rw [ifF z3] at e
            cases e
            exact ⟨fun y => (by cases y), fun _ y => z3 (b3.mpr y)⟩
      · rw [ifF z1] at e
        cases e
        exact ⟨fun _ => h, fun y => by cases y⟩
theorem w_when {u : Unit} (h : Wc σ) (e : F_when x1 x2 σ = some (u, s)) : Wx s := by
  unfold F_when at e
  by_cases z : tI σ 148 = 12
  · rw [ifT z] at e
    obtain ⟨r1, s1, e1, e⟩ := ob_e e
    cases e
    exact Or.inl (bad_e (by decide) e1).1
  · rw [ifF z, nm_eq, nm_eq] at e
    obtain ⟨A, Wn, a1, a2, a3, a4, F, a5, a6, a7⟩ := h
    have hW : Wn < 12 := by
      rw [a2] at z
      have : Wn ≠ 12 := fun y => z (by rw [y]; rfl)
      omega
    have xW : ix (nI Wn) = Wn := ix_nI (by omega)
    rw [a2, xW] at e
    obtain ⟨-, e⟩ := if_e e
    obtain ⟨r1, s1, e1, e⟩ := ob_e e
    obtain ⟨s2, hs2⟩ : ∃ q, q = tsI σ 148 (nI Wn + 1) := ⟨_, rfl⟩
    rw [← hs2] at e1
    have f2 : Ft [148] σ s2 := by rw [hs2]; exact (Ft.rf _ σ).p_tsI rfl
    have f1 := fS_F_build _ _ _ _ _ _ _ e1
    obtain ⟨-, e⟩ := if_e e
    rw [nm_eq] at e
    obtain ⟨-, e⟩ := if_e e
    rw [nm_eq] at e
    obtain ⟨-, e⟩ := if_e e
    rw [nm_eq] at e
    have e152 : tI (tsA s1 145 Wn r1) 152 = nI A := by
      show tI s1 152 = nI A
      rw [(f1 152 rfl).1, (f2 152 rfl).1]; exact a1
    rw [e152] at e
    have hL : WL Wn A F (tsA (tsA s1 145 Wn r1) 146 Wn (nI A)) := by
      refine ⟨?_, ⟨A, e152, Nat.le_refl _, a3⟩, by rw [tA_tsA, ifT ⟨rfl, rfl⟩], fun k hk => ?_⟩
      · show tI s1 148 = _
        rw [(f1 148 rfl).1, hs2]
        show nI Wn + 1 = _
        exact nI_addL Wn 1
      · rw [tA_tsA, ifF (by omega), tA_tsA, ifF (by omega), tA_tsA, ifF (by omega), tA_tsA, ifF (by omega), (f1 146 rfl).2.2.1, (f1 147 rfl).2.2.1, (f2 146 rfl).2.2.1, (f2 147 rfl).2.2.1]
        exact a7 k hk
    generalize hX : L_when_69 FU x2 (nI Wn) (tA (tsA (tsA s1 145 Wn r1) 146 Wn (nI A)) 68 (ix x1)) (tsA (tsA s1 145 Wn r1) 146 Wn (nI A)) = X at e
    cases X with
    | none => cases e
    | some p =>
      obtain ⟨q, s8⟩ := p
      have w := w_69 _ _ _ _ _ _ _ hL hX
      cases q with
      | inr v =>
        rw [obS_inr] at e
        cases e
        exact Or.inl (w.2 rfl)
      | inl v =>
        rw [obS_inl] at e
        obtain ⟨-, e⟩ := if_e e
        obtain ⟨-, e⟩ := if_e e
        rw [nm_eq] at e
        cases e
        obtain ⟨w1, ⟨A', w2, w3, w4⟩, w5, w6⟩ := w.1 rfl
        refine Or.inr ⟨A', Wn + 1, w2, w1, w4, by omega, fun k => if k ≤ Wn then F k else A', ?_, ?_, fun k hk => ?_⟩
        · show (if 0 ≤ Wn then F 0 else A') = 0
          rw [ifT (Nat.zero_le _)]; exact a5
        · show (if Wn + 1 ≤ Wn then F (Wn + 1) else A') = A'
          exact ifF (by omega)
        · show _ = nI (if k ≤ Wn then F k else A') ∧ (if k ≤ Wn then F k else A') ≤ (if k + 1 ≤ Wn then F (k + 1) else A') ∧ _ = nI ((if k + 1 ≤ Wn then F (k + 1) else A') - (if k ≤ Wn then F k else A'))
          by_cases y : k = Wn
          · subst y
            rw [ifT (Nat.le_refl _), ifF (by omega), a6, tA_tsA, ifF (by omega), tA_tsA, ifT ⟨rfl, rfl⟩, w2, w5]
            exact ⟨rfl, w3, nI_sub w3⟩
          · have hk' : k < Wn := by omega
            rw [ifT (by omega), ifT (by omega), tA_tsA, ifF (by omega), tA_tsA, ifF (by omega)]
            have := w6 k hk'
            exact this
/-- from a state to its outcome -/
def WX (o : Option (α × TS)) : Prop := ∀ r s, o = some (r, s) → Wx s
theorem Wx.nb (h : Wx σ) (h0 : tI σ 0 = 0) : Wc σ := by
  rcases h with h | h
  · exact absurd h0 h
  · exact h
theorem Wx.ft (h : Wx σ) (f : Ft S σ s) (hS : [0, 146, 147, 148, 152].all (fun k => !S.contains k) = true) : Wx s := by
  have hf : ∀ k, k ∈ [0, 146, 147, 148, 152] → S.contains k = false := fun k hk => by simpa using List.all_eq_true.mp hS k hk
  rcases h with h | h
  · exact Or.inl (by rw [(f 0 (hf 0 (by decide))).1]; exact h)
  · refine Or.inr (h.ft f ?_)
    rw [List.all_eq_true]
    intro k hk
    rw [hf k (List.mem_cons_of_mem _ hk)]; rfl
theorem w_113 {cf : Int32 → Int32 → TS → Option (Unit × TS)} (hcf : ∀ x1 x2 σ, Wx σ → WX (cf x1 x2 σ)) : ∀ (n : Nat) (x2 x3 x4 : Int32) (σ : TS), Wx σ → WX (L_equationsOf_113 cf n x2 x3 x4 σ) := by
  intro n
  induction n with
  | zero => intro x2 x3 x4 σ _ r s e; cases e
  | succ n ih =>
    intro x2 x3 x4 σ h r s e
    rw [L_equationsOf_113] at e
    obtain ⟨-, e⟩ := if_e e
    by_cases z : tA σ 69 (ix x3) < x4
    · rw [ifT z] at e; cases e; exact h
    · rw [ifF z] at e
      obtain ⟨r1, b1, e⟩ := ob_bad e
      by_cases z1 : r1 = 0
      · have hc := h.nb (b1.mp z1)
        rw [ifT z1, nm_eq] at e
        obtain ⟨s1, hs1⟩ : ∃ q, q = tsI σ 133 (tI σ 133 + 1) := ⟨_, rfl⟩
        rw [← hs1] at e
        have f1 : Ft [133] σ s1 := by rw [hs1]; exact (Ft.rf _ σ).p_tsI rfl
        by_cases z2 : tI s1 133 ≤ 4000
        · rw [ifT z2] at e
          obtain ⟨-, e⟩ := if_e e
          obtain ⟨-, e⟩ := if_e e
          rw [nm_eq] at e
          obtain ⟨-, e⟩ := if_e e
          rw [nm_eq, nm_eq] at e
          obtain ⟨-, e⟩ := if_e e
          obtain ⟨r2, s2, e2, e⟩ := ob_e e
          rw [nm_eq, nm_eq] at e
          have h2 : Wx s2 := hcf _ _ _ (Or.inr ((hc.ft f1 (by decide)).ft (S := [115, 116, 117]) ((((Ft.rf _ s1).p_tsB rfl).p_tsA rfl).p_tsI rfl) (by decide))) _ _ e2
          exact ih _ _ _ _ (h2.ft (S := [117]) ((Ft.rf _ s2).p_tsI rfl) (by decide)) _ _ e
        · rw [ifF z2] at e
          obtain ⟨r2, s2, e2, e⟩ := ob_e e
          cases e
          exact Or.inl (bad_e (by decide) e2).1
      · rw [ifF z1] at e; cases e; exact h
theorem w_2 {cf : Int32 → Int32 → TS → Option (Unit × TS)} (hcf : ∀ x1 x2 σ, Wx σ → WX (cf x1 x2 σ)) : ∀ (n : Nat) (x2 x3 : Int32) (σ : TS), Wx σ → WX (L_equationsOf_2 cf n x2 x3 σ) := by
  intro n
  induction n with
  | zero => intro x2 x3 σ _ r s e; cases e
  | succ n ih =>
    intro x2 x3 σ h r s e
    rw [L_equationsOf_2] at e
    by_cases z : x3 = 0
    · rw [ifT z] at e; cases e; exact h
    · rw [ifF z] at e
      obtain ⟨r1, b1, e⟩ := ob_bad e
      by_cases z1 : r1 = 0
      · have hc := h.nb (b1.mp z1)
        rw [ifT z1] at e
        obtain ⟨-, e⟩ := if_e e
        by_cases k1 : tA σ 66 (ix x3) = 1
        · rw [ifT k1] at e
          obtain ⟨-, e⟩ := if_e e
          obtain ⟨r2, s2, e2, e⟩ := ob_e e
          obtain ⟨-, e⟩ := if_e e
          obtain ⟨r3, s3, e3, e⟩ := ob_e e
          obtain ⟨r4, s4, e4, e⟩ := ob_e e
          obtain ⟨-, e⟩ := if_e e
          rw [nm_eq] at e
          exact ih _ _ _ (Or.inr (((hc.ft (fS_F_build _ _ _ _ _ _ _ e2) (by decide)).ft (fS_F_build _ _ _ _ _ _ _ e3) (by decide)).ft (fS_F_addEquation _ _ _ _ _ e4) (by decide))) _ _ e
        · rw [ifF k1] at e
          by_cases k2 : tA σ 66 (ix x3) = 2
          · rw [ifT k2] at e
            obtain ⟨-, e⟩ := if_e e
            obtain ⟨-, e⟩ := if_e e
            obtain ⟨r2, s2, e2, e⟩ := ob_e e
            obtain ⟨-, e⟩ := if_e e
            rw [nm_eq] at e
            exact ih _ _ _ (Or.inr (hc.ft (fS_F_connect _ _ _ _ _ _ e2) (by decide))) _ _ e
          · rw [ifF k2] at e
            by_cases k3 : tA σ 66 (ix x3) = 3
            · rw [ifT k3] at e
              obtain ⟨-, e⟩ := if_e e
              rw [nm_eq] at e
              obtain ⟨r2, s2, e2, e⟩ := ob_e e
              obtain ⟨-, e⟩ := if_e e
              rw [nm_eq] at e
              exact ih _ _ _ (w_113 hcf _ _ _ _ _ h _ _ e2) _ _ e
            · rw [ifF k3] at e
              by_cases k4 : tA σ 66 (ix x3) = 4
              · rw [ifT k4] at e
                obtain ⟨-, e⟩ := if_e e
                obtain ⟨r2, s2, e2, e⟩ := ob_e e
                have h2 : Wx s2 := Or.inr (hc.ft (fS_F_truth _ _ _ _ _ e2) (by decide))
                obtain ⟨r3, b3, e⟩ := ob_bad e
                by_cases z3 : r3 = 0
                · rw [ifT z3] at e
                  by_cases z4 : r2 = 0
                  · rw [ifT z4] at e
                    obtain ⟨-, e⟩ := if_e e
                    obtain ⟨r4, s4, e4, e⟩ := ob_e e
                    obtain ⟨-, e⟩ := if_e e
                    rw [nm_eq] at e
                    exact ih _ _ _ (hcf _ _ _ h2 _ _ e4) _ _ e
                  · rw [ifF z4] at e
                    obtain ⟨-, e⟩ := if_e e
                    obtain ⟨r4, s4, e4, e⟩ := ob_e e
                    obtain ⟨-, e⟩ := if_e e
                    rw [nm_eq] at e
                    exact ih _ _ _ (hcf _ _ _ h2 _ _ e4) _ _ e
                · rw [ifF z3] at e
                  obtain ⟨-, e⟩ := if_e e
                  rw [nm_eq] at e
                  exact ih _ _ _ h2 _ _ e
              · rw [ifF k4] at e
                obtain ⟨r2, s2, e2, e⟩ := ob_e e
                obtain ⟨-, e⟩ := if_e e
                rw [nm_eq] at e
                exact ih _ _ _ (w_when hc e2) _ _ e
      · rw [ifF z1] at e; cases e; exact h
theorem w_eqs : ∀ (d : Nat) (x1 x2 : Int32) (σ : TS), Wx σ → WX (G_equationsOf d x1 x2 σ) := by
  intro d
  induction d with
  | zero => intro x1 x2 σ _ r s e; cases e
  | succ d ih =>
    intro x1 x2 σ h r s e
    have e : B_equationsOf (G_equationsOf d) x1 x2 σ = some (r, s) := e
    unfold B_equationsOf at e
    obtain ⟨r1, s1, e1, e⟩ := ob_e e
    cases e
    exact w_2 ih _ _ _ _ h _ _ e1
theorem w_7 {cf : Int32 → Int32 → TS → Option (Unit × TS)} (hcf : ∀ x1 x2 σ, Wx σ → WX (cf x1 x2 σ)) : ∀ (n : Nat) (x1 x2 x3 : Int32) (σ : TS), Wx σ → WX (L_ownEquations_7 cf n x1 x2 x3 σ) := by
  intro n
  induction n with
  | zero => intro x1 x2 x3 σ _ r s e; cases e
  | succ n ih =>
    intro x1 x2 x3 σ h r s e
    rw [L_ownEquations_7] at e
    obtain ⟨-, e⟩ := if_e e
    obtain ⟨-, e⟩ := if_e e
    by_cases z : tA σ 45 (ix x1) + tA σ 46 (ix x1) ≤ x3
    · rw [ifT z] at e; cases e; exact h
    · rw [ifF z] at e
      obtain ⟨r1, b1, e⟩ := ob_bad e
      by_cases z1 : r1 = 0
      · rw [ifT z1] at e
        obtain ⟨-, e⟩ := if_e e
        by_cases z2 : tA σ 57 (ix x3) = 0
        · rw [ifT z2, nm_eq] at e
          exact ih _ _ _ _ h _ _ e
        · rw [ifF z2] at e
          obtain ⟨-, e⟩ := if_e e
          obtain ⟨r2, s2, e2, e⟩ := ob_e e
          obtain ⟨r3, s3, e3, e⟩ := ob_e e
          rw [nm_eq] at e
          have h2 : Wx s2 := h.ft (fS_F_classOf _ _ _ _ e2) (by decide)
          exact ih _ _ _ _ (hcf _ _ _ h2 _ _ e3) _ _ e
      · rw [ifF z1] at e; cases e; exact h
theorem w_own : ∀ (d : Nat) (x1 x2 : Int32) (σ : TS), Wx σ → WX (G_ownEquations d x1 x2 σ) := by
  intro d
  induction d with
  | zero => intro x1 x2 σ _ r s e; cases e
  | succ d ih =>
    intro x1 x2 σ h r s e
    have e : B_ownEquations (G_ownEquations d) x1 x2 σ = some (r, s) := e
    unfold B_ownEquations at e
    obtain ⟨-, e⟩ := if_e e
    rw [nm_eq] at e
    obtain ⟨r1, s1, e1, e⟩ := ob_e e
    have h1 := w_7 ih _ _ _ _ _ h _ _ e1
    obtain ⟨r2, b2, e⟩ := ob_bad e
    by_cases z : r2 = 0
    · rw [ifT z] at e
      obtain ⟨-, e⟩ := if_e e
      obtain ⟨r3, s3, e3, e⟩ := ob_e e
      cases e
      exact w_eqs 40 _ _ _ h1 _ _ e3
    · rw [ifF z] at e; cases e; exact h1
theorem w_c2 {cf : Int32 → TS → Option (Unit × TS)} (hcf : ∀ x1 σ, Wx σ → WX (cf x1 σ)) : ∀ (n : Nat) (x1 x2 : Int32) (σ : TS), Wx σ → WX (L_collect_2 cf n x1 x2 σ) := by
  intro n
  induction n with
  | zero => intro x1 x2 σ _ r s e; cases e
  | succ n ih =>
    intro x1 x2 σ h r s e
    rw [L_collect_2] at e
    by_cases z : tI σ 82 ≤ x2
    · rw [ifT z] at e; cases e; exact h
    · rw [ifF z] at e
      obtain ⟨r1, b1, e⟩ := ob_bad e
      by_cases z1 : r1 = 0
      · rw [ifT z1] at e
        obtain ⟨-, e⟩ := if_e e
        by_cases z2 : tA σ 75 (ix x2) = x1
        · rw [ifT z2] at e
          obtain ⟨r2, s2, e2, e⟩ := ob_e e
          rw [nm_eq] at e
          exact ih _ _ _ (hcf _ _ h _ _ e2) _ _ e
        · rw [ifF z2, nm_eq] at e
          exact ih _ _ _ h _ _ e
      · rw [ifF z1] at e; cases e; exact h
theorem w_col : ∀ (d : Nat) (x1 : Int32) (σ : TS), Wx σ → WX (G_collect d x1 σ) := by
  intro d
  induction d with
  | zero => intro x1 σ _ r s e; cases e
  | succ d ih =>
    intro x1 σ h r s e
    have e : B_collect (G_collect d) x1 σ = some (r, s) := e
    unfold B_collect at e
    obtain ⟨r1, s1, e1, e⟩ := ob_e e
    have h1 := w_c2 ih _ _ _ _ h _ _ e1
    obtain ⟨r2, b2, e⟩ := ob_bad e
    by_cases z : r2 = 0
    · rw [ifT z] at e
      obtain ⟨-, e⟩ := if_e e
      obtain ⟨r3, s3, e3, e⟩ := ob_e e
      cases e
      exact w_own 40 _ _ _ h1 _ _ e3
    · rw [ifF z] at e; cases e; exact h1
/-- all whens, once collected -/
theorem t_collW {u : Unit} (h : Wc σ) (e : F_collect x1 σ = some (u, s)) (h0 : tI s 0 = 0) : Wc s := (w_col 40 _ _ (Or.inr h) _ _ e).nb h0
end CONT
