/-! Layer B: flat nodes on both sides -/
set_option maxRecDepth 100000
abbrev vrF : List (Int32 × Int32) := [(1, 2), (15, 3), (16, 4)]
abbrev unF : List (Int32 × Int32) := [(7, 7), (8, 10), (9, 11), (12, 12), (13, 13)]
abbrev biF : List (Int32 × Int32) := [(3, 5), (4, 6), (5, 8), (6, 9), (10, 14), (11, 15)]
abbrev rlF : List (Int32 × Int32) := [(20, 60), (21, 62), (22, 15421), (23, 15933), (24, 15677), (25, 15422)]
abbrev coF : List (Int32 × Int32) := [(26, 21), (27, 22)]
/-- what can have a number -/
abbrev rlO : List Int32 := [20, 21, 22, 23, 24, 25, 29]
/-- a number (0) or a condition (1), at most h high: object a of the first K of row l, the twin's n below N -/
def NdR (fx : Int32) (D : FQ) (M : CM) (σ : TS) (l V : Nat) : Nat → Nat → Nat → Nat → Nat → Nat → Prop
  | 0, _, _, _, _, _ => False
  | h + 1, s, K, N, a, n => ((∃ k, k < K ∧ a = (pl D l).getD k 0 ∧ (l = 106 → n = k + 1)) ∧ 1 ≤ n ∧ n < N) ∧ (∃ t, mI M 3404 a = nI t ∧ tA σ 134 n = nI t ∧ 1 ≤ t ∧ t ≤ h + 1 ∧ (mI M 3400 a ∉ rlO → mI M 3403 a = -1)) ∧
    ((s = 0 ∧ mI M 3400 a = 0 ∧ tA σ 121 n = 0 ∧ mI M 3401 a = tA σ 122 n ∧ mR M 3405 a = 0 ∧ mR M 3406 a = 0 ∧ mR M 3407 a = 0) ∨
     (s = 0 ∧ (mI M 3400 a, tA σ 121 n) ∈ vrF ∧ (∃ v, v < V ∧ mI M 3401 a = nI v ∧ tA σ 122 n = nI v ∧ (fx = 1 → mI M 3400 a = 1 ∧ tA σ 94 v = 1) ∧ ((tA σ 121 n = 3 → tA σ 94 v = 0) ∧ (tA σ 121 n = 4 → ¬ tA σ 94 v = 1))) ∧ mR M 3405 a = 0 ∧ mR M 3406 a = 0 ∧ mR M 3407 a = 0) ∨
     (s = 0 ∧ mI M 3400 a = 2 ∧ tA σ 121 n = 1 ∧ ¬ fx = 1 ∧ mR M 3405 a = 0 ∧ mR M 3406 a = 0 ∧ mR M 3407 a = 0) ∨
     (s = 0 ∧ (mI M 3400 a, tA σ 121 n) ∈ unF ∧ (∃ x, tA σ 122 n = nI x ∧ NdR fx D M σ l V h 0 K N (mR M 3405 a) x) ∧ mR M 3406 a = 0 ∧ mR M 3407 a = 0) ∨
     (s = 0 ∧ (mI M 3400 a, tA σ 121 n) ∈ biF ∧ (∃ x, tA σ 122 n = nI x ∧ NdR fx D M σ l V h 0 K N (mR M 3405 a) x) ∧ (∃ y, tA σ 123 n = nI y ∧ NdR fx D M σ l V h 0 K N (mR M 3406 a) y) ∧ mR M 3407 a = 0) ∨
     (s = 0 ∧ mI M 3400 a = 14 ∧ tA σ 121 n = 16 ∧ (∃ x, tA σ 122 n = nI x ∧ NdR fx D M σ l V h 1 K N (mR M 3405 a) x) ∧ (∃ y, tA σ 123 n = nI y ∧ NdR fx D M σ l V h 0 K N (mR M 3406 a) y) ∧ ∃ z, tA σ 124 n = nI z ∧ NdR fx D M σ l V h 0 K N (mR M 3407 a) z) ∨
     (s = 1 ∧ tA σ 121 n = 20 ∧ (mI M 3400 a, tA σ 122 n) ∈ rlF ∧ (∃ x, tA σ 123 n = nI x ∧ NdR fx D M σ l V h 0 K N (mR M 3405 a) x) ∧ (∃ y, tA σ 124 n = nI y ∧ NdR fx D M σ l V h 0 K N (mR M 3406 a) y) ∧ mR M 3407 a = 0) ∨
     (s = 1 ∧ (mI M 3400 a, tA σ 121 n) ∈ coF ∧ (∃ x, tA σ 122 n = nI x ∧ NdR fx D M σ l V h 1 K N (mR M 3405 a) x) ∧ (∃ y, tA σ 123 n = nI y ∧ NdR fx D M σ l V h 1 K N (mR M 3406 a) y) ∧ mR M 3407 a = 0) ∨
     (s = 1 ∧ mI M 3400 a = 28 ∧ tA σ 121 n = 23 ∧ (∃ x, tA σ 122 n = nI x ∧ NdR fx D M σ l V h 1 K N (mR M 3405 a) x) ∧ mR M 3406 a = 0 ∧ mR M 3407 a = 0) ∨
     (s = 1 ∧ mI M 3400 a = 29 ∧ tA σ 121 n = 24 ∧ ¬ fx = 1 ∧ (∃ x y, mI M 3401 a = nI x ∧ mI M 3402 a = nI y ∧ tA σ 122 n = nI x ∧ tA σ 123 n = nI y ∧ x ≤ 2147418112 ∧ 1 ≤ y ∧ y ≤ 2147418112) ∧ mR M 3405 a = 0 ∧ mR M 3406 a = 0 ∧ mR M 3407 a = 0))
/-- nodes stay, but for their numbers -/
def NdKn (D : FQ) (M : CM) (σ : TS) (D' : FQ) (M' : CM) (σ' : TS) (l K N : Nat) : Prop := (∀ k, k < K → (pl D' l).getD k 0 = (pl D l).getD k 0 ∧ (∀ f, f ∈ [3400, 3401, 3402, 3404] → mI M' f ((pl D l).getD k 0) = mI M f ((pl D l).getD k 0)) ∧ (∀ f, f ∈ [3405, 3406, 3407] → mR M' f ((pl D l).getD k 0) = mR M f ((pl D l).getD k 0)) ∧ (mI M 3400 ((pl D l).getD k 0) ∉ rlO → mI M' 3403 ((pl D l).getD k 0) = mI M 3403 ((pl D l).getD k 0))) ∧ (∀ f, f ∈ [121, 122, 123, 124, 134] → ∀ n, n < N → tA σ' f n = tA σ f n) ∧ ∀ v, tA σ' 94 v = tA σ 94 v
/-- nodes stay -/
def NdK (D : FQ) (M : CM) (σ : TS) (D' : FQ) (M' : CM) (σ' : TS) (l K N : Nat) : Prop := (∀ k, k < K → (pl D' l).getD k 0 = (pl D l).getD k 0 ∧ (∀ f, f ∈ [3400, 3401, 3402, 3403, 3404] → mI M' f ((pl D l).getD k 0) = mI M f ((pl D l).getD k 0)) ∧ ∀ f, f ∈ [3405, 3406, 3407] → mR M' f ((pl D l).getD k 0) = mR M f ((pl D l).getD k 0)) ∧ (∀ f, f ∈ [121, 122, 123, 124, 134, 162] → ∀ n, n < N → tA σ' f n = tA σ f n) ∧ ∀ v, tA σ' 94 v = tA σ 94 v
section NDR
variable {fx : Int32} {D D' D2 : FQ} {M M' M2 : CM} {σ σ' σ2 : TS} {l V V' h h' s K K' N N' a n k : Nat}
theorem NdK.wk (g : NdK D M σ D' M' σ' l K N) : NdKn D M σ D' M' σ' l K N := ⟨fun k hk => ⟨(g.1 k hk).1, fun f hf => (g.1 k hk).2.1 f (by simp only [List.mem_cons, List.not_mem_nil, or_false] at hf ⊢; omega), (g.1 k hk).2.2, fun _ => (g.1 k hk).2.1 3403 (by decide)⟩, fun f hf => g.2.1 f (by simp only [List.mem_cons, List.not_mem_nil, or_false] at hf ⊢; omega), g.2.2⟩
theorem NdR.mvn {fx fx' : Int32} (hfx : fx' = 1 → fx = 1) (g : NdKn D M σ D' M' σ' l K N) (hK : K ≤ K') (hN : N ≤ N') (hV : V ≤ V') : ∀ (h h' s a n : Nat), h ≤ h' → NdR fx D M σ l V h s K N a n → NdR fx' D' M' σ' l V' h' s K' N' a n
  | 0, _, _, _, _, _, z => z.elim
  | h + 1, 0, _, _, _, hh, _ => absurd hh (Nat.not_succ_le_zero h)
  | h + 1, h' + 1, s, a, n, hh, z => by
    obtain ⟨⟨⟨k, k1, k2, kl⟩, n1, n2⟩, ⟨t, t1, t2, t3, t4, t5⟩, z⟩ := z
    have ih : ∀ s a n, NdR fx D M σ l V h s K N a n → NdR fx' D' M' σ' l V' h' s K' N' a n := fun s a n q => NdR.mvn hfx g hK hN hV h h' s a n (Nat.le_of_succ_le_succ hh) q
    obtain ⟨e0, e1, e2, e8⟩ := g.1 k k1
    rw [← k2] at e0 e1 e2 e8
    have e3 := fun f hf => g.2.1 f hf n n2
    refine ⟨⟨⟨k, by omega, e0.symm, kl⟩, n1, by omega⟩, ⟨t, by rw [e1 3404 (by decide)]; exact t1, by rw [e3 134 (by decide)]; exact t2, t3, by omega, fun q => by rw [e1 3400 (by decide)] at q; exact (e8 q).trans (t5 q)⟩, ?_⟩
    rw [e1 3400 (by decide), e1 3401 (by decide), e1 3402 (by decide), e2 3405 (by decide), e2 3406 (by decide), e2 3407 (by decide), e3 121 (by decide), e3 122 (by decide), e3 123 (by decide), e3 124 (by decide)]
    rcases z with z | z | z | z | z | z | z | z | z | z
    · exact Or.inl z
    · obtain ⟨z1, z2, ⟨v, v1, v2, v3, v4, v5⟩, z3⟩ := z
      exact Or.inr (Or.inl ⟨z1, z2, ⟨v, by omega, v2, v3, fun q => by rw [g.2.2]; exact v4 (hfx q), ⟨fun q => by rw [g.2.2]; exact v5.1 q, fun q => by rw [g.2.2]; exact v5.2 q⟩⟩, z3⟩)
    · obtain ⟨z1, z2, z3, z4, z5⟩ := z
      exact Or.inr (Or.inr (Or.inl ⟨z1, z2, z3, fun q => z4 (hfx q), z5⟩))
    · obtain ⟨z1, z2, ⟨x, x1, x2⟩, z3⟩ := z
      exact Or.inr (Or.inr (Or.inr (Or.inl ⟨z1, z2, ⟨x, x1, ih _ _ _ x2⟩, z3⟩)))
    · obtain ⟨z1, z2, ⟨x, x1, x2⟩, ⟨y, y1, y2⟩, z3⟩ := z
      exact Or.inr (Or.inr (Or.inr (Or.inr (Or.inl ⟨z1, z2, ⟨x, x1, ih _ _ _ x2⟩, ⟨y, y1, ih _ _ _ y2⟩, z3⟩))))
    · obtain ⟨z1, z2, z3, ⟨x, x1, x2⟩, ⟨y, y1, y2⟩, w, w1, w2⟩ := z
      exact Or.inr (Or.inr (Or.inr (Or.inr (Or.inr (Or.inl ⟨z1, z2, z3, ⟨x, x1, ih _ _ _ x2⟩, ⟨y, y1, ih _ _ _ y2⟩, w, w1, ih _ _ _ w2⟩)))))
    · obtain ⟨z1, z2, z3, ⟨x, x1, x2⟩, ⟨y, y1, y2⟩, z4⟩ := z
      exact Or.inr (Or.inr (Or.inr (Or.inr (Or.inr (Or.inr (Or.inl ⟨z1, z2, z3, ⟨x, x1, ih _ _ _ x2⟩, ⟨y, y1, ih _ _ _ y2⟩, z4⟩))))))
    · obtain ⟨z1, z2, ⟨x, x1, x2⟩, ⟨y, y1, y2⟩, z3⟩ := z
      exact Or.inr (Or.inr (Or.inr (Or.inr (Or.inr (Or.inr (Or.inr (Or.inl ⟨z1, z2, ⟨x, x1, ih _ _ _ x2⟩, ⟨y, y1, ih _ _ _ y2⟩, z3⟩)))))))
    · obtain ⟨z1, z2, z3, ⟨x, x1, x2⟩, z4⟩ := z
      exact Or.inr (Or.inr (Or.inr (Or.inr (Or.inr (Or.inr (Or.inr (Or.inr (Or.inl ⟨z1, z2, z3, ⟨x, x1, ih _ _ _ x2⟩, z4⟩))))))))
    · obtain ⟨z1, z2, z3, z4, z5⟩ := z
      exact Or.inr (Or.inr (Or.inr (Or.inr (Or.inr (Or.inr (Or.inr (Or.inr (Or.inr ⟨z1, z2, z3, fun q => z4 (hfx q), z5⟩))))))))
theorem NdR.mvx {fx fx' : Int32} (hfx : fx' = 1 → fx = 1) (g : NdK D M σ D' M' σ' l K N) (hK : K ≤ K') (hN : N ≤ N') (hV : V ≤ V') (h h' s a n : Nat) (hh : h ≤ h') (z : NdR fx D M σ l V h s K N a n) : NdR fx' D' M' σ' l V' h' s K' N' a n := NdR.mvn hfx g.wk hK hN hV h h' s a n hh z
theorem NdR.mv (g : NdK D M σ D' M' σ' l K N) (hK : K ≤ K') (hN : N ≤ N') (hV : V ≤ V') (h h' s a n : Nat) (hh : h ≤ h') (z : NdR fx D M σ l V h s K N a n) : NdR fx D' M' σ' l V' h' s K' N' a n := NdR.mvx (fun q => q) g hK hN hV h h' s a n hh z
theorem NdK.rf : NdK D M σ D M σ l K N := ⟨fun _ _ => ⟨rfl, fun _ _ => rfl, fun _ _ => rfl⟩, fun _ _ _ _ => rfl, fun _ => rfl⟩
theorem NdK.tr (h : NdK D M σ D' M' σ' l K N) (g : NdK D' M' σ' D2 M2 σ2 l K' N') (hK : K ≤ K') (hN : N ≤ N') : NdK D M σ D2 M2 σ2 l K N := by
  refine ⟨fun k hk => ?_, fun f hf n hn => (g.2.1 f hf n (by omega)).trans (h.2.1 f hf n hn), fun v => (g.2.2 v).trans (h.2.2 v)⟩
  obtain ⟨a1, a2, a3⟩ := h.1 k hk
  obtain ⟨b1, b2, b3⟩ := g.1 k (by omega)
  rw [a1] at b1 b2 b3
  exact ⟨b1, fun f hf => (b2 f hf).trans (a2 f hf), fun f hf => (b3 f hf).trans (a3 f hf)⟩
theorem NdKn.tr (h : NdKn D M σ D' M' σ' l K N) (g : NdKn D' M' σ' D2 M2 σ2 l K' N') (hK : K ≤ K') (hN : N ≤ N') : NdKn D M σ D2 M2 σ2 l K N := by
  refine ⟨fun k hk => ?_, fun f hf n hn => (g.2.1 f hf n (by omega)).trans (h.2.1 f hf n hn), fun v => (g.2.2 v).trans (h.2.2 v)⟩
  obtain ⟨a1, a2, a3, a4⟩ := h.1 k hk
  obtain ⟨b1, b2, b3, b4⟩ := g.1 k (by omega)
  rw [a1] at b1 b2 b3 b4
  exact ⟨b1, fun f hf => (b2 f hf).trans (a2 f hf), fun f hf => (b3 f hf).trans (a3 f hf), fun q => (b4 (by rw [a2 3400 (by decide)]; exact q)).trans (a4 q)⟩
/-- a node and its height, for those above it -/
theorem NdR.ch (g : NdR fx D M σ l V h s K N a n) (hh : h ≤ 1000) : ∃ t, ChO D M l K a t ∧ a = a ∧ tA σ 134 n = nI t ∧ 1 ≤ t ∧ t ≤ h := by
  cases h with
  | zero => exact g.elim
  | succ h =>
    obtain ⟨⟨⟨k, k1, k2, -⟩, n1, n2⟩, ⟨t, t1, t2, t3, t4, -⟩, -⟩ := g
    exact ⟨t, Or.inr ⟨k, k1, k2, t1, by omega⟩, rfl, t2, t3, t4⟩
theorem NdR.nb (g : NdR fx D M σ l V h s K N a n) : 1 ≤ n ∧ n < N := by
  cases h with
  | zero => exact g.elim
  | succ h => exact g.1.2
end NDR
