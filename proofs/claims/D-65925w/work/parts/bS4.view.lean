/-! Layer B: flat nodes by the number of their parts; derivatives in a tree -/
set_option maxRecDepth 100000
abbrev k0T : List Int32 := [0, 1, 2, 3, 4, 24]
abbrev k1T : List Int32 := [7, 10, 11, 12, 13, 23]
abbrev k2T : List Int32 := [5, 6, 8, 9, 14, 15, 21, 22]
abbrev opI : List Int32 := [3, 4, 5, 6, 7, 8, 9, 10, 11, 12, 13, 14, 20, 21, 22, 23, 24, 25, 26, 27, 28]
/-- leaf; one part; two; three; a relation -/
def NdV (fx : Int32) (D : FQ) (M : CM) (σ : TS) (l V h K N a n : Nat) : Prop :=
  ((mR M 3405 a = 0 ∧ mR M 3406 a = 0 ∧ mR M 3407 a = 0) ∧ ((mI M 3400 a = 0 ∧ tA σ 121 n = 0 ∧ mI M 3401 a = tA σ 122 n) ∨ (mI M 3400 a = 2 ∧ tA σ 121 n = 1) ∨ (mI M 3400 a = 29 ∧ tA σ 121 n = 24 ∧ ∃ x y, mI M 3401 a = nI x ∧ mI M 3402 a = nI y ∧ tA σ 122 n = nI x ∧ tA σ 123 n = nI y ∧ x ≤ 2147418112 ∧ 1 ≤ y ∧ y ≤ 2147418112) ∨ ((mI M 3400 a, tA σ 121 n) ∈ vrF ∧ ∃ v, v < V ∧ mI M 3401 a = nI v ∧ tA σ 122 n = nI v ∧ ((tA σ 121 n = 3 → tA σ 94 v = 0) ∧ (tA σ 121 n = 4 → ¬ tA σ 94 v = 1))))) ∨
  (mI M 3400 a ∈ opI ∧
   ((tA σ 121 n ∈ k1T ∧ (∃ s x, tA σ 122 n = nI x ∧ NdR fx D M σ l V h s K N (mR M 3405 a) x) ∧ mR M 3406 a = 0 ∧ mR M 3407 a = 0) ∨
    (tA σ 121 n ∈ k2T ∧ (∃ s x, tA σ 122 n = nI x ∧ NdR fx D M σ l V h s K N (mR M 3405 a) x) ∧ (∃ s x, tA σ 123 n = nI x ∧ NdR fx D M σ l V h s K N (mR M 3406 a) x) ∧ mR M 3407 a = 0) ∨
    (tA σ 121 n = 16 ∧ (∃ s x, tA σ 122 n = nI x ∧ NdR fx D M σ l V h s K N (mR M 3405 a) x) ∧ (∃ s x, tA σ 123 n = nI x ∧ NdR fx D M σ l V h s K N (mR M 3406 a) x) ∧ ∃ s x, tA σ 124 n = nI x ∧ NdR fx D M σ l V h s K N (mR M 3407 a) x) ∨
    (tA σ 121 n = 20 ∧ (∃ s x, tA σ 123 n = nI x ∧ NdR fx D M σ l V h s K N (mR M 3405 a) x) ∧ (∃ s x, tA σ 124 n = nI x ∧ NdR fx D M σ l V h s K N (mR M 3406 a) x) ∧ mR M 3407 a = 0)))
/-- variable v's derivative stands in the tree -/
def DrL (σ : TS) : Nat → Nat → Nat → Prop
  | 0, _, _ => False
  | h + 1, n, v => (tA σ 121 n = 3 ∧ tA σ 122 n = nI v) ∨ (tA σ 121 n ∈ kd2 ∧ DrL σ h (ix (tA σ 122 n)) v) ∨ (tA σ 121 n ∈ kd3 ∧ DrL σ h (ix (tA σ 123 n)) v) ∨ (tA σ 121 n ∈ kd4 ∧ DrL σ h (ix (tA σ 124 n)) v)
section VIEW
variable {fx : Int32} {D : FQ} {M : CM} {σ : TS} {l V h s K N a n : Nat}
theorem NdR.view (z : NdR fx D M σ l V (h + 1) s K N a n) : ((∃ k, k < K ∧ a = (pl D l).getD k 0) ∧ 1 ≤ n ∧ n < N) ∧ NdV fx D M σ l V h K N a n := by
  obtain ⟨⟨⟨k, k1, k2, -⟩, n1, n2⟩, -, z⟩ := z
  refine ⟨⟨⟨k, k1, k2⟩, n1, n2⟩, ?_⟩
  rcases z with ⟨-, h1, h2, h3, h4⟩ | ⟨-, h1, ⟨v, v1, v2, v3, -, v4⟩, h4⟩ | ⟨-, h1, h2, -, h4⟩ | ⟨-, h1, ⟨x, x1, x2⟩, h4⟩ | ⟨-, h1, ⟨x, x1, x2⟩, ⟨y, y1, y2⟩, h4⟩ | ⟨-, h1, h2, ⟨x, x1, x2⟩, ⟨y, y1, y2⟩, w, w1, w2⟩ | ⟨-, h2, h1, ⟨x, x1, x2⟩, ⟨y, y1, y2⟩, h4⟩ | ⟨-, h1, ⟨x, x1, x2⟩, ⟨y, y1, y2⟩, h4⟩ | ⟨-, h1, h2, ⟨x, x1, x2⟩, h4⟩ | ⟨-, h1, h2, -, h3, h4⟩
  · exact Or.inl ⟨h4, Or.inl ⟨h1, h2, h3⟩⟩
  · exact Or.inl ⟨h4, Or.inr (Or.inr (Or.inr ⟨h1, v, v1, v2, v3, v4⟩))⟩
  · exact Or.inl ⟨h4, Or.inr (Or.inl ⟨h1, h2⟩)⟩
  · refine Or.inr ⟨?_, Or.inl ⟨?_, ⟨_, x, x1, x2⟩, h4⟩⟩ <;>
    · simp only [List.mem_cons, Prod.mk.injEq, List.not_mem_nil, or_false] at h1
      rcases h1 with ⟨e1, e2⟩ | ⟨e1, e2⟩ | ⟨e1, e2⟩ | ⟨e1, e2⟩ | ⟨e1, e2⟩ <;> first | (rw [e1]; decide) | (rw [e2]; decide)
  · refine Or.inr ⟨?_, Or.inr (Or.inl ⟨?_, ⟨_, x, x1, x2⟩, ⟨_, y, y1, y2⟩, h4⟩)⟩ <;>
    · simp only [List.mem_cons, Prod.mk.injEq, List.not_mem_nil, or_false] at h1
      rcases h1 with ⟨e1, e2⟩ | ⟨e1, e2⟩ | ⟨e1, e2⟩ | ⟨e1, e2⟩ | ⟨e1, e2⟩ | ⟨e1, e2⟩ <;> first | (rw [e1]; decide) | (rw [e2]; decide)
  · exact Or.inr ⟨by rw [h1]; decide, Or.inr (Or.inr (Or.inl ⟨h2, ⟨_, x, x1, x2⟩, ⟨_, y, y1, y2⟩, _, w, w1, w2⟩))⟩
  · refine Or.inr ⟨?_, Or.inr (Or.inr (Or.inr ⟨h2, ⟨_, x, x1, x2⟩, ⟨_, y, y1, y2⟩, h4⟩))⟩
    simp only [List.mem_cons, Prod.mk.injEq, List.not_mem_nil, or_false] at h1
    rcases h1 with ⟨e1, e2⟩ | ⟨e1, e2⟩ | ⟨e1, e2⟩ | ⟨e1, e2⟩ | ⟨e1, e2⟩ | ⟨e1, e2⟩ <;> (rw [e1]; decide)
  · refine Or.inr ⟨?_, Or.inr (Or.inl ⟨?_, ⟨_, x, x1, x2⟩, ⟨_, y, y1, y2⟩, h4⟩)⟩ <;>
    · simp only [List.mem_cons, Prod.mk.injEq, List.not_mem_nil, or_false] at h1
      rcases h1 with ⟨e1, e2⟩ | ⟨e1, e2⟩ <;> first | (rw [e1]; decide) | (rw [e2]; decide)
  · exact Or.inr ⟨by rw [h1]; decide, Or.inl ⟨by rw [h2]; decide, ⟨_, x, x1, x2⟩, h4⟩⟩
  · exact Or.inl ⟨h4, Or.inr (Or.inr (Or.inl ⟨h1, h2, h3⟩))⟩
end VIEW
