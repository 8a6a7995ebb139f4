/-! Layer B: solved trees: the relation of both sides -/
set_option maxRecDepth 100000
def lf3 (M : CM) (a : Nat) : Prop := mR M 3405 a = 0 ∧ mR M 3406 a = 0 ∧ mR M 3407 a = 0
abbrev oneX : List (Nat × Int32 × Int32) := [(0, 7, 7), (0, 8, 10), (0, 9, 11), (0, 12, 12), (0, 13, 13), (1, 28, 23)]
abbrev twoX : List (Nat × Int32 × Int32) := [(0, 3, 5), (0, 4, 6), (0, 5, 8), (0, 6, 9), (0, 10, 14), (0, 11, 15), (1, 26, 21), (1, 27, 22)]
abbrev plX : List (Int32 × Int32) := [(1, 2), (16, 4)]
/-- a leaf that is an unknown: the component's op, value; its sign -/
def LfO (l V : Nat) (s : TS) (n : Nat) (op vl x : Int32) : Prop :=
  (tA s 121 n = 2 ∧ ∃ v u, (tA s 122 n = nI v ∧ v < V) ∧ LfU s v u x ∧ op = 17 ∧ vl = nI u) ∨
  (tA s 121 n = 3 ∧ ∃ v u, (tA s 122 n = nI v ∧ v < V) ∧ LfU s v u x ∧ ((l = 134 ∧ op = 17 ∧ ∃ d, d < 180 ∧ tA s 189 u = nI d ∧ vl = nI d) ∨ (l ≠ 134 ∧ op = 19 ∧ vl = nI u))) ∨
  (tA s 121 n = 4 ∧ ∃ v u, (tA s 122 n = nI v ∧ v < V) ∧ LfU s v u x ∧ op = 18 ∧ vl = nI u) ∨
  (tA s 121 n = 30 ∧ ∃ u, u < 180 ∧ tA s 122 n = nI u ∧ x = 1 ∧ op = 17 ∧ vl = nI u)
/-- a number (0), a condition (1): object a of the first K of row l, the twin's n below N -/
def SxR (D : FQ) (M : CM) (s : TS) (l V K N : Nat) : Nat → Nat → Nat → Nat → Prop
  | 0, _, _, _ => False
  | h + 1, st, a, n => ((∃ k, k < K ∧ a = (pl D l).getD k 0) ∧ 1 ≤ n ∧ n < N) ∧ (∃ t, mI M 3404 a = nI t ∧ (1 ≤ t ∧ t ≤ h + 2) ∧ (l = 134 → t = PH s (h + 1) n)) ∧
    ((st = 0 ∧ lf3 M a ∧ ((mI M 3400 a = 0 ∧ tA s 121 n = 0 ∧ mI M 3401 a = tA s 122 n ∧ 0 ≤ tA s 122 n) ∨ (mI M 3400 a = 2 ∧ tA s 121 n = 1) ∨ ((mI M 3400 a, tA s 121 n) ∈ plX ∧ ∃ v, (v < V ∧ v < 96) ∧ mI M 3401 a = nI v ∧ tA s 122 n = nI v ∧ ¬ tA s 94 v = 0 ∧ (tA s 121 n = 4 → tA s 94 v = 2)))) ∨
     (st = 0 ∧ ∃ op vl x, LfO l V s n op vl x ∧ ((x = 1 ∧ mI M 3400 a = op ∧ mI M 3401 a = vl ∧ lf3 M a) ∨ (x = -1 ∧ mI M 3400 a = 7 ∧ mR M 3406 a = 0 ∧ mR M 3407 a = 0 ∧ (∃ k, k < K ∧ mR M 3405 a = (pl D l).getD k 0) ∧ mI M 3400 (mR M 3405 a) = op ∧ mI M 3401 (mR M 3405 a) = vl ∧ lf3 M (mR M 3405 a) ∧ mI M 3404 (mR M 3405 a) = 1))) ∨
     ((st, mI M 3400 a, tA s 121 n) ∈ oneX ∧ (∃ x, tA s 122 n = nI x ∧ SxR D M s l V K N h st (mR M 3405 a) x) ∧ mR M 3406 a = 0 ∧ mR M 3407 a = 0) ∨
     ((st, mI M 3400 a, tA s 121 n) ∈ twoX ∧ (∃ x, tA s 122 n = nI x ∧ SxR D M s l V K N h st (mR M 3405 a) x) ∧ (∃ y, tA s 123 n = nI y ∧ SxR D M s l V K N h st (mR M 3406 a) y) ∧ mR M 3407 a = 0) ∨
     (st = 0 ∧ mI M 3400 a = 14 ∧ tA s 121 n = 16 ∧ (∃ x, tA s 122 n = nI x ∧ SxR D M s l V K N h 1 (mR M 3405 a) x) ∧ (∃ y, tA s 123 n = nI y ∧ SxR D M s l V K N h 0 (mR M 3406 a) y) ∧ ∃ z, tA s 124 n = nI z ∧ SxR D M s l V K N h 0 (mR M 3407 a) z) ∨
     (st = 1 ∧ ((tA s 121 n = 20 ∧ (mI M 3400 a, tA s 122 n) ∈ rlF ∧ ∃ r, r < 24 ∧ mI M 3403 a = nI r ∧ tA s 162 n = nI r) ∨ (tA s 121 n = 25 ∧ (mI M 3400 a, tA s 122 n) ∈ ([(22, 15421), (23, 15933)] : List (Int32 × Int32)) ∧ mI M 3403 a = -1)) ∧ (∃ y, tA s 123 n = nI y ∧ SxR D M s l V K N h 0 (mR M 3405 a) y) ∧ (∃ z, tA s 124 n = nI z ∧ SxR D M s l V K N h 0 (mR M 3406 a) z) ∧ mR M 3407 a = 0) ∨
     (st = 1 ∧ mI M 3400 a = 29 ∧ tA s 121 n = 24 ∧ lf3 M a ∧ (∃ r, r < 24 ∧ mI M 3403 a = nI r ∧ tA s 162 n = nI r) ∧ ∃ x y, mI M 3401 a = nI x ∧ mI M 3402 a = nI y ∧ tA s 122 n = nI x ∧ tA s 123 n = nI y ∧ x ≤ 2147418112 ∧ 1 ≤ y ∧ y ≤ 2147418112))
section SX
variable {s s' s1 s2 σ : TS} {D D' D2 : FQ} {M M' M1 M2 : CM} {l V K K' N N' h h' st a n m p q r k c1 c2 c3 t1 t2 t3 j u v w x0 X H : Nat} {op vl x kx : Int32}
theorem SxR.nb (z : SxR D M s l V K N h st a n) : (∃ k, k < K ∧ a = (pl D l).getD k 0) ∧ 1 ≤ n ∧ n < N := by
  cases h with
  | zero => exact z.elim
  | succ h => exact z.1
theorem oneX_T (z : (st, op, kx) ∈ oneX) : (st, kx) ∈ oneT := by
  simp only [List.mem_cons, Prod.mk.injEq, List.not_mem_nil, or_false] at z
  rcases z with ⟨rfl, -, rfl⟩ | ⟨rfl, -, rfl⟩ | ⟨rfl, -, rfl⟩ | ⟨rfl, -, rfl⟩ | ⟨rfl, -, rfl⟩ | ⟨rfl, -, rfl⟩ <;> decide
theorem twoX_T (z : (st, op, kx) ∈ twoX) : (st, kx) ∈ twoT := by
  simp only [List.mem_cons, Prod.mk.injEq, List.not_mem_nil, or_false] at z
  rcases z with ⟨rfl, -, rfl⟩ | ⟨rfl, -, rfl⟩ | ⟨rfl, -, rfl⟩ | ⟨rfl, -, rfl⟩ | ⟨rfl, -, rfl⟩ | ⟨rfl, -, rfl⟩ | ⟨rfl, -, rfl⟩ | ⟨rfl, -, rfl⟩ <;> decide
/-- the twin's tree -/
theorem SxR.tw : ∀ (h st a n : Nat), SxR D M s 134 V K N h st a n → TwT s N h st n
  | 0, _, _, _, z => z.elim
  | h + 1, st, a, n, z => by
    obtain ⟨⟨-, nb⟩, -, z⟩ := z
    have ih := fun st a n z => SxR.tw h st a n z
    refine ⟨nb, ?_⟩
    rcases z with ⟨q0, -, ⟨-, q, -⟩ | ⟨-, q⟩ | ⟨q1, v, ⟨-, v1⟩, -, v2, v3, -⟩⟩ | ⟨q0, op, vl, x, q1, -⟩ | ⟨q1, ⟨x, x1, x2⟩, -⟩ | ⟨q1, ⟨x, x1, x2⟩, ⟨y, y1, y2⟩, -⟩ | ⟨q0, -, q1, ⟨x, x1, x2⟩, ⟨y, y1, y2⟩, z, z1, z2⟩ | ⟨q0, q1, ⟨y, y1, y2⟩, ⟨z, z1, z2⟩, -⟩ | ⟨q0, -, q1, -⟩
    · exact Or.inl ⟨q0, Or.inl q⟩
    · exact Or.inl ⟨q0, Or.inr q⟩
    · refine Or.inr (Or.inl ⟨q0, ?_, v, v1, v2, v3⟩)
      simp only [List.mem_cons, Prod.mk.injEq, List.not_mem_nil, or_false] at q1
      rcases q1 with ⟨-, q1⟩ | ⟨-, q1⟩
      · exact Or.inl q1
      · exact Or.inr q1
    · rcases q1 with ⟨e, v, u, ⟨b, -⟩, c, -⟩ | ⟨e, v, u, ⟨b, -⟩, c, ⟨-, -, d, d1, d2, -⟩ | ⟨d, -⟩⟩ | ⟨e, v, u, ⟨b, -⟩, c, -⟩ | ⟨e, u, b, c, d, -⟩
      · exact Or.inr (Or.inr (Or.inl ⟨q0, u, x, Or.inl ⟨e, v, b, c⟩⟩))
      · exact Or.inr (Or.inr (Or.inl ⟨q0, d, x, Or.inr (Or.inl ⟨e, v, u, b, c, d2, d1⟩)⟩))
      · exact absurd rfl d
      · exact Or.inr (Or.inr (Or.inr (Or.inl ⟨q0, e, v, u, x, b, c⟩)))
      · exact Or.inr (Or.inr (Or.inl ⟨q0, u, x, Or.inr (Or.inr ⟨e, c, b, d⟩)⟩))
    · exact Or.inr (Or.inr (Or.inr (Or.inr (Or.inl ⟨oneX_T q1, x, x1, ih _ _ _ x2⟩))))
    · exact Or.inr (Or.inr (Or.inr (Or.inr (Or.inr (Or.inl ⟨twoX_T q1, ⟨x, x1, ih _ _ _ x2⟩, y, y1, ih _ _ _ y2⟩)))))
    · exact Or.inr (Or.inr (Or.inr (Or.inr (Or.inr (Or.inr (Or.inl ⟨q0, q1, ⟨x, x1, ih _ _ _ x2⟩, ⟨y, y1, ih _ _ _ y2⟩, z, z1, ih _ _ _ z2⟩))))))
    · exact Or.inr (Or.inr (Or.inr (Or.inr (Or.inr (Or.inr (Or.inr (Or.inl ⟨q0, q1.imp (fun q => q.1) (fun q => q.1), ⟨y, y1, ih _ _ _ y2⟩, z, z1, ih _ _ _ z2⟩)))))))
    · exact Or.inr (Or.inr (Or.inr (Or.inr (Or.inr (Or.inr (Or.inr (Or.inr ⟨q0, q1⟩)))))))
theorem LfO.mv (z : LfO l V s n op vl x) (g : NdX s s' N) (hn : n < N) : LfO l V s' n op vl x := by
  unfold LfO
  rw [g.1 121 (by decide) n hn, g.1 122 (by decide) n hn]
  rcases z with ⟨e, v, u, b, c, d⟩ | ⟨e, v, u, b, c, ⟨e0, e1, d, d1, d2, d3⟩ | d⟩ | ⟨e, v, u, b, c, d⟩ | z
  · exact Or.inl ⟨e, v, u, b, c.mv g, d⟩
  · exact Or.inr (Or.inl ⟨e, v, u, b, c.mv g, Or.inl ⟨e0, e1, d, d1, (g.2.2 u (by rw [d2]; exact nI_m1 (by omega))).trans d2, d3⟩⟩)
  · exact Or.inr (Or.inl ⟨e, v, u, b, c.mv g, Or.inr d⟩)
  · exact Or.inr (Or.inr (Or.inl ⟨e, v, u, b, c.mv g, d⟩))
  · exact Or.inr (Or.inr (Or.inr z))
theorem LfO.sg (z : LfO l V s n op vl x) : sg1 x := by
  rcases z with ⟨e, v, u, b, c, d⟩ | ⟨e, v, u, b, c, d⟩ | ⟨e, v, u, b, c, d⟩ | ⟨e, u, b, c, d, -⟩
  · exact c.2.2.2.2
  · exact c.2.2.2.2
  · exact c.2.2.2.2
  · exact Or.inl d
/-- it stays -/
theorem SxR.mv (g : SnK D M D' M' l K) (gx : NdX s s' N) (hK : K ≤ K') (hN : N ≤ N') (h7 : N ≤ 70000) : ∀ (h h' st a n : Nat), h ≤ h' → SxR D M s l V K N h st a n → SxR D' M' s' l V K' N' h' st a n
  | 0, _, _, _, _, _, z => z.elim
  | h + 1, 0, _, _, _, hh, _ => absurd hh (Nat.not_succ_le_zero h)
  | h + 1, h' + 1, st, a, n, hh, z => by
    have ih := fun st a n z => SxR.mv g gx hK hN h7 h h' st a n (Nat.le_of_succ_le_succ hh) z
    have z0 := z
    obtain ⟨⟨⟨k, k1, k2⟩, n1, n2⟩, ⟨t, t1, t2, t3⟩, z⟩ := z
    obtain ⟨g1, g2, g3⟩ := g k k1
    rw [← k2] at g1 g2 g3
    refine ⟨⟨⟨k, by omega, g1.symm⟩, n1, by omega⟩, ⟨t, (g2 3404).trans t1, ⟨t2.1, by omega⟩, fun e => ?_⟩, ?_⟩
    · subst e
      rw [(TwT.ps gx h7 (h + 1) (h' + 1) st n hh (SxR.tw _ _ _ _ z0)).2]; exact t3 rfl
    unfold lf3
    rw [g2, g2, g2, g2, g3, g3, g3, gx.1 121 (by decide) n n2, gx.1 122 (by decide) n n2, gx.1 123 (by decide) n n2, gx.1 124 (by decide) n n2, gx.2.1 162 (by decide)]
    rcases z with ⟨q0, q1, q2⟩ | ⟨q0, op, vl, x, q1, q2⟩ | ⟨q1, ⟨x, x1, x2⟩, q3⟩ | ⟨q1, ⟨x, x1, x2⟩, ⟨y, y1, y2⟩, q3⟩ | ⟨q0, q2, q1, ⟨x, x1, x2⟩, ⟨y, y1, y2⟩, z, z1, z2⟩ | ⟨q0, q1, ⟨y, y1, y2⟩, ⟨z, z1, z2⟩, q3⟩ | z
    · refine Or.inl ⟨q0, q1, q2.imp id (fun q => q.imp id (fun ⟨q3, v, v1, v2, v3, v4⟩ => ⟨q3, v, v1, v2, v3, by rw [gx.2.1 94 (by decide)]; exact v4⟩))⟩
    · refine Or.inr (Or.inl ⟨q0, op, vl, x, q1.mv gx n2, q2.imp id (fun ⟨b0, b1, b2, b3, ⟨j, j1, j2⟩, b4, b5, b6, b7⟩ => ?_)⟩)
      obtain ⟨f1, f2, f3⟩ := g j j1
      rw [← j2] at f1 f2 f3
      rw [f2, f2, f2, f3, f3, f3]
      exact ⟨b0, b1, b2, b3, ⟨j, by omega, f1.symm⟩, b4, b5, b6, b7⟩
    · exact Or.inr (Or.inr (Or.inl ⟨q1, ⟨x, x1, ih _ _ _ x2⟩, q3⟩))
    · exact Or.inr (Or.inr (Or.inr (Or.inl ⟨q1, ⟨x, x1, ih _ _ _ x2⟩, ⟨y, y1, ih _ _ _ y2⟩, q3⟩)))
    · exact Or.inr (Or.inr (Or.inr (Or.inr (Or.inl ⟨q0, q2, q1, ⟨x, x1, ih _ _ _ x2⟩, ⟨y, y1, ih _ _ _ y2⟩, z, z1, ih _ _ _ z2⟩))))
    · exact Or.inr (Or.inr (Or.inr (Or.inr (Or.inr (Or.inl ⟨q0, q1, ⟨y, y1, ih _ _ _ y2⟩, ⟨z, z1, ih _ _ _ z2⟩, q3⟩)))))
    · exact Or.inr (Or.inr (Or.inr (Or.inr (Or.inr (Or.inr z)))))
/-- a child for a node made -/
theorem SxR.ch (z : SxR D M s l V K N h st a n) (hh : h ≤ 900) : ∃ t, ChO D M l K a t ∧ mI M 3404 a = nI t ∧ 1 ≤ t ∧ t ≤ h + 1 ∧ (l = 134 → t = PH s h n) := by
  cases h with
  | zero => exact z.elim
  | succ h =>
    obtain ⟨⟨⟨k, k1, k2⟩, -⟩, ⟨t, t1, t2, t3⟩, -⟩ := z
    exact ⟨t, Or.inr ⟨k, k1, k2, t1, by omega⟩, t1, t2.1, by omega, t3⟩
/-- by its height -/
theorem SxR.hI (z : SxR D M s l V K N h st a n) (hh : h ≤ 900) (e : mI M 3404 a = nI j) (hj : j < 100000) : 1 ≤ j ∧ j ≤ h + 1 ∧ (l = 134 → j = PH s h n) := by
  obtain ⟨t, -, t1, t2, t3, t4⟩ := z.ch hh
  have : t = j := (bI_eq (by omega) (by omega)).mp (t1.symm.trans e)
  subst this
  exact ⟨t2, t3, t4⟩
end SX
