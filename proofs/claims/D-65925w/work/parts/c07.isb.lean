/-! Layer B: running: what holds is 0 or 1 -/
set_option maxRecDepth 100000
section ISB
variable {α : Type} {pq : Bool} {C : PC} {B : Nat} {P : Nat → Prop} {mss fss : List Nat} {V U S q A Wn K1 K2 N e r w v u b n i j k a m kf tf h : Nat} {D : FQ} {M M' M1 : CM} {σ σ' s : TS} {x x1 x2 x3 y z : Int32} {kc kv : KVT}
theorem obS_e {β : Type} {o : Option ((α ⊕ Nat) × CM)} {f : α → CM → Option ((β ⊕ Nat) × CM)} {v : β} (h : obS o (fun w M => some (.inr w, M)) f = some (.inl v, M')) : ∃ r M1, o = some (.inl r, M1) ∧ f r M1 = some (.inl v, M') := by
  cases o with
  | none => cases h
  | some p =>
    obtain ⟨s, M1⟩ := p
    cases s with
    | inl r => exact ⟨r, M1, rfl, h⟩
    | inr w => cases h
theorem b_and (h : eAnd kc a M = some (.inl z, M')) : z = 0 ∨ z = 1 := by
  unfold eAnd at h
  obtain ⟨r, M1, -, h⟩ := obS_e h
  obtain ⟨-, h⟩ := if_e h
  obtain ⟨r2, M2, -, h⟩ := obS_e h
  by_cases y : r2 = 0
  · rw [ifT y] at h; cases h; exact Or.inl rfl
  · rw [ifF y] at h
    by_cases y : r = 0
    · rw [ifT y] at h; cases h; exact Or.inl rfl
    · rw [ifF y] at h; cases h; exact Or.inr rfl
theorem b_or (h : eOr kc a M = some (.inl z, M')) : z = 0 ∨ z = 1 := by
  unfold eOr at h
  obtain ⟨r, M1, -, h⟩ := obS_e h
  obtain ⟨-, h⟩ := if_e h
  obtain ⟨r2, M2, -, h⟩ := obS_e h
  by_cases y : r2 = 0
  · rw [ifT y] at h
    by_cases y : r = 0
    · rw [ifT y] at h; cases h; exact Or.inl rfl
    · rw [ifF y] at h; cases h; exact Or.inr rfl
  · rw [ifF y] at h; cases h; exact Or.inr rfl
theorem b_not (h : eNot kc a M = some (.inl z, M')) : z = 0 ∨ z = 1 := by
  unfold eNot at h
  obtain ⟨r, M1, -, h⟩ := obS_e h
  by_cases y : r = 0
  · rw [ifT y] at h; cases h; exact Or.inr rfl
  · rw [ifF y] at h; cases h; exact Or.inl rfl
theorem b_cmp {c x y : Int32} (h : K_X0_compare c x y M = some (z, M')) : z = 0 ∨ z = 1 := by
  unfold K_X0_compare at h
  repeat' split at h
  all_goals first | (cases h; exact Or.inl rfl) | (cases h; exact Or.inr rfl)
theorem b_live (h : eLive kv a M = some (.inl z, M')) : z = 0 ∨ z = 1 := by
  unfold eLive at h
  obtain ⟨r, M1, -, h⟩ := obS_e h
  obtain ⟨-, h⟩ := if_e h
  obtain ⟨-, h⟩ := if_e h
  obtain ⟨r2, M2, -, h⟩ := obS_e h
  obtain ⟨q, M3, h1, h⟩ := ob_e h
  cases h
  exact b_cmp h1
/-- what the component finds to hold -/
theorem b_is (w : RnW C B P mss fss V U S q A Wn K1 K2 N D M σ) (d : VaE x2 V U Wn D M σ) (r0 : SxE U V K1 K2 N D M σ (h + 1) 1 a n) (e : K_X0_is a M = some (.inl z, M')) : z = 0 ∨ z = 1 := by
  obtain ⟨E, -⟩ := w.ev d
  obtain ⟨ka, hn⟩ := sxe_k E r0 (by omega)
  obtain ⟨r0, lv⟩ := r0
  have hx := d.1.2.2
  have d4 := d.2.2.2.1
  have e : isC (299 + 1) a M = some (.inl z, M') := e
  have gen : ∀ l K', SxR D M σ l V K' N (h + 1) 1 a n → z = 0 ∨ z = 1 := fun l K' g => by
    obtain ⟨-, -, g⟩ := g
    obtain ⟨⟨-, -, b3⟩, -⟩ := lv
    rcases g with ⟨q0, -⟩ | ⟨q0, -⟩ | ⟨q1, -⟩ | ⟨q1, -⟩ | ⟨q0, -⟩ | ⟨-, q1, -⟩ | ⟨-, q1, q2, -, ⟨r, r1, r2, r3⟩, -⟩
    · exact absurd q0 (by decide)
    · exact absurd q0 (by decide)
    · simp only [List.mem_cons, Prod.mk.injEq, List.not_mem_nil, or_false] at q1
      have : mI M 3400 a = 28 := by
        rcases q1 with ⟨q0, q1, q2⟩ | ⟨q0, q1, q2⟩ | ⟨q0, q1, q2⟩ | ⟨q0, q1, q2⟩ | ⟨q0, q1, q2⟩ | ⟨q0, q1, q2⟩ <;> first | exact q1 | exact absurd q0 (by decide)
      rw [(is_keq 299 a M ka).2.2.2.2.2.2 this] at e
      exact b_not e
    · simp only [List.mem_cons, Prod.mk.injEq, List.not_mem_nil, or_false] at q1
      have : mI M 3400 a = 26 ∨ mI M 3400 a = 27 := by
        rcases q1 with ⟨q0, q1, q2⟩ | ⟨q0, q1, q2⟩ | ⟨q0, q1, q2⟩ | ⟨q0, q1, q2⟩ | ⟨q0, q1, q2⟩ | ⟨q0, q1, q2⟩ | ⟨q0, q1, q2⟩ | ⟨q0, q1, q2⟩ <;> first | exact Or.inl q1 | exact Or.inr q1 | exact absurd q0 (by decide)
      rcases this with k | k
      · rw [(is_keq 299 a M ka).2.2.2.2.1 k] at e
        exact b_and e
      · rw [(is_keq 299 a M ka).2.2.2.2.2.1 k] at e
        exact b_or e
    · exact absurd q0 (by decide)
    · have nr : ¬ mI M 3400 a = 26 ∧ ¬ mI M 3400 a = 27 ∧ ¬ mI M 3400 a = 28 ∧ ¬ mI M 3400 a = 29 := by
        rcases q1 with ⟨-, q1, -⟩ | ⟨-, q1, -⟩
        · simp only [List.mem_cons, List.not_mem_nil, or_false, Prod.mk.injEq] at q1
          rcases q1 with ⟨q, -⟩ | ⟨q, -⟩ | ⟨q, -⟩ | ⟨q, -⟩ | ⟨q, -⟩ | ⟨q, -⟩ <;> rw [q] <;> decide
        · simp only [List.mem_cons, List.not_mem_nil, or_false, Prod.mk.injEq] at q1
          rcases q1 with ⟨q, -⟩ | ⟨q, -⟩ <;> rw [q] <;> decide
      rcases q1 with ⟨k, -, r, r1, r2, r3⟩ | ⟨k, -, r2⟩
      · rcases hx with ⟨-, x3⟩ | ⟨-, x3⟩
        · rw [is_held ka nr x3 r2 r1] at e
          cases e
          obtain ⟨r', c1, c2, c3⟩ := b3 (Or.inl k)
          have : r' = r := nIq (c2.symm.trans r3) (by omega) (by omega)
          subst this
          obtain ⟨g1, g2⟩ := d4 r' c1 c3
          rw [g1]; exact g2
        · rw [is_lv ka nr (Or.inl x3)] at e
          exact b_live e
      · rw [is_lv ka nr (Or.inr r2)] at e
        exact b_live e
    · rw [is_smp ka q1 r2 r1] at e
      cases e
      obtain ⟨r', c1, c2, c3⟩ := b3 (Or.inr q2)
      have : r' = r := nIq (c2.symm.trans r3) (by omega) (by omega)
      subst this
      obtain ⟨g1, g2⟩ := d4 r' c1 c3
      rw [g1]; exact g2
  exact r0.elim (gen _ _) (gen _ _)
end ISB
