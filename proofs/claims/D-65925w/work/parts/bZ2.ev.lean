/-! Layer B: values of solved trees, both sides -/
set_option maxRecDepth 100000
/-- unknowns that stand as leaves lie below U, relations have numbers -/
def LvB (U : Nat) (s : TS) : Nat → Nat → Prop
  | 0, _ => True
  | h + 1, n => ((∀ v u x, (tA s 121 n = 2 ∨ tA s 121 n = 3 ∨ tA s 121 n = 4) → tA s 122 n = nI v → LfU s v u x → u < U) ∧ (∀ u, tA s 121 n = 30 → tA s 122 n = nI u → u < 180 → u < U) ∧ ((tA s 121 n = 20 ∨ tA s 121 n = 24) → RqOk s n)) ∧
    (tA s 121 n ∈ k1T → LvB U s h (ix (tA s 122 n))) ∧ (tA s 121 n ∈ k2T → LvB U s h (ix (tA s 122 n)) ∧ LvB U s h (ix (tA s 123 n))) ∧ (tA s 121 n = 16 → LvB U s h (ix (tA s 122 n)) ∧ LvB U s h (ix (tA s 123 n)) ∧ LvB U s h (ix (tA s 124 n))) ∧ ((tA s 121 n = 20 ∨ tA s 121 n = 25) → LvB U s h (ix (tA s 123 n)) ∧ LvB U s h (ix (tA s 124 n)))
/-- what evaluation needs, both sides alike -/
def EvV (x2 : Int32) (V U K1 K2 N : Nat) (D : FQ) (M : CM) (σ : TS) : Prop :=
  (tI σ 0 = 0 ∧ mI M 85 1 = tI σ 165 ∧ ((x2 = 1 ∧ ¬ mI M 86 1 = 0) ∨ (¬ x2 = 1 ∧ mI M 86 1 = 0))) ∧
  (∀ u, u < U → mA M 124 u = tA σ 166 u ∧ mA M 125 u = tA σ 167 u ∧ mA M 121 u = tA σ 189 u ∧ (tA σ 189 u = -1 ∨ ∃ w, w < U ∧ tA σ 189 u = nI w)) ∧
  (∀ v, v < V → ((tA σ 94 v = 1 → mI M 3213 ((pl D 98).getD v 0) = tA σ 104 v ∧ tA σ 160 v = 2) ∧ (tA σ 94 v = 2 → mI M 3213 ((pl D 98).getD v 0) = tA σ 168 v ∧ mI M 3214 ((pl D 98).getD v 0) = tA σ 169 v)) ∧ (∃ k, k < 3 ∧ tA σ 94 v = nI k) ∧ mk M ((pl D 98).getD v 0) = 17 ∧ K_J2_get 98 (nI v) M = some ((pl D 98).getD v 0, M)) ∧
  (∀ r, r < 24 → nI r < tI σ 154 → mA M 148 r = tA σ 163 r) ∧ ((mn M ≤ 601024 ∧ ms M + 8 ≤ 7293034) ∧ mn M ≠ 0) ∧ ((∀ k, k < K1 → mk M ((pl D 134).getD k 0) = 18) ∧ ∀ k, k < K2 → mk M ((pl D 136).getD k 0) = 18) ∧ V ≤ 96 ∧ U ≤ 180 ∧ N ≤ 70000
/-- a solved tree, both sides -/
def SxE (U V K1 K2 N : Nat) (D : FQ) (M : CM) (s : TS) (h st a n : Nat) : Prop := (SxR D M s 134 V K1 N h st a n ∨ SxR D M s 136 V K2 N h st a n) ∧ LvB U s h n
def LfE (l U V : Nat) (M : CM) (s : TS) (st a n : Nat) : Prop :=
  (st = 0 ∧ mI M 3400 a = 2 ∧ tA s 121 n = 1) ∨
  (st = 0 ∧ (mI M 3400 a, tA s 121 n) ∈ plX ∧ ∃ v, (v < V ∧ v < 96) ∧ mI M 3401 a = nI v ∧ tA s 122 n = nI v ∧ ¬ tA s 94 v = 0 ∧ (tA s 121 n = 4 → tA s 94 v = 2)) ∨
  (st = 0 ∧ ∃ op vl x, LfO l V s n op vl x ∧ ((∀ v u x, (tA s 121 n = 2 ∨ tA s 121 n = 3 ∨ tA s 121 n = 4) → tA s 122 n = nI v → LfU s v u x → u < U) ∧ ∀ u, tA s 121 n = 30 → tA s 122 n = nI u → u < 180 → u < U) ∧ ((x = 1 ∧ mI M 3400 a = op ∧ mI M 3401 a = vl) ∨ (x = -1 ∧ mI M 3400 a = 7 ∧ mk M (mR M 3405 a) = 18 ∧ mI M 3400 (mR M 3405 a) = op ∧ mI M 3401 (mR M 3405 a) = vl))) ∨
  (st = 1 ∧ mI M 3400 a = 29 ∧ tA s 121 n = 24 ∧ ∃ r, r < 24 ∧ nI r < tI s 154 ∧ mI M 3403 a = nI r ∧ tA s 162 n = nI r)
section RUNEV
variable {M M0 : CM} {σ σ0 s : TS} {D : FQ} {U V K K1 K2 N l h st d a n o u v w kf tf : Nat} {x x2 y r : Int32} {t : Nat → Int32}
theorem LvB.of : ∀ (h n : Nat), (∀ u, OcU s h n u → u < U) → UX s U n → LvB U s h n
  | 0, _, _, _ => trivial
  | h + 1, n, b, g => by
    have ih := fun n b g => LvB.of h n b g
    have gy : ∀ {n}, UW s U n → (tA s 121 n = 20 ∨ tA s 121 n = 25) → UW s U (ix (tA s 123 n)) ∧ UW s U (ix (tA s 124 n)) := fun g k4 => ⟨fun H w z => g (H + 1) w ((OcW_4 k4).mpr (Or.inl z)), fun H w z => g (H + 1) w ((OcW_4 k4).mpr (Or.inr z))⟩
    refine ⟨⟨fun v u x k e l => ?_, fun u k e hu => b u (Or.inl ⟨1, Or.inr (Or.inr ⟨k, e, hu, rfl⟩)⟩), fun k => g.2.rel k⟩, fun k => ?_, fun k => ?_, fun k => ?_, fun k => ?_⟩
    · rcases k with k | k | k
      · exact b u (Or.inl ⟨x, Or.inl ⟨k, v, e, l⟩⟩)
      · exact g.1 1 u (Or.inl ⟨Or.inl k, v, x, e, l⟩)
      · exact g.1 1 u (Or.inl ⟨Or.inr k, v, x, e, l⟩)
    · exact ih _ (fun u o => b u (Or.inr (Or.inl ⟨k, o⟩))) ⟨g.1.a (Or.inl k), g.2.a (Or.inl k)⟩
    · exact ⟨ih _ (fun u o => b u (Or.inr (Or.inr (Or.inl ⟨k, Or.inl o⟩)))) ⟨g.1.a (Or.inr (Or.inl k)), g.2.a (Or.inr (Or.inl k))⟩, ih _ (fun u o => b u (Or.inr (Or.inr (Or.inl ⟨k, Or.inr o⟩)))) ⟨g.1.b (Or.inl k), g.2.b (Or.inl k)⟩⟩
    · exact ⟨ih _ (fun u o => b u (Or.inr (Or.inr (Or.inr (Or.inl ⟨k, Or.inl o⟩))))) ⟨g.1.a (Or.inr (Or.inr k)), g.2.a (Or.inr (Or.inr k))⟩, ih _ (fun u o => b u (Or.inr (Or.inr (Or.inr (Or.inl ⟨k, Or.inr (Or.inl o)⟩))))) ⟨g.1.b (Or.inr k), g.2.b (Or.inr k)⟩, ih _ (fun u o => b u (Or.inr (Or.inr (Or.inr (Or.inl ⟨k, Or.inr (Or.inr o)⟩))))) ⟨g.1.cd k, g.2.cd k⟩⟩
    · obtain ⟨g1, g2⟩ := gy g.1 k
      exact ⟨ih _ (fun u o => b u (Or.inr (Or.inr (Or.inr (Or.inr ⟨k, Or.inl o⟩))))) ⟨g1, g.2.y k⟩, ih _ (fun u o => b u (Or.inr (Or.inr (Or.inr (Or.inr ⟨k, Or.inr o⟩))))) ⟨g2, g.2.z k⟩⟩
theorem sx_nox (hl : l = 134 ∨ l = 136) (h7 : N ≤ 70000) (hk : ∀ k, k < K → mk M ((pl D l).getD k 0) = 18) (z : SxR D M s l V K N (h + 1) st a n) (b : LvB U s (h + 1) n) : NoX M s (LfE l U V M s) (fun st a n => SxR D M s l V K N h st a n ∧ LvB U s h n) st a n := by
  obtain ⟨⟨⟨k, k1, k2⟩, n1, n2⟩, -, z⟩ := z
  obtain ⟨⟨b1, b2, b3⟩, c1, c2, c3, c4⟩ := b
  have sub : ∀ {x f}, tA s f n = nI x → x < N → LvB U s h (ix (tA s f n)) → LvB U s h x := fun e hx u => by rw [e, ix_nI (by omega)] at u; exact u
  rcases z with ⟨q0, q1, ⟨q2, q3, q4, -⟩ | ⟨q2, q3⟩ | q2⟩ | ⟨q0, op, vl, x, q1, q2⟩ | ⟨q1, ⟨x, x1, x2⟩, -⟩ | ⟨q1, ⟨x, x1, x2⟩, ⟨y, y1, y2⟩, -⟩ | ⟨q0, q2, q1, ⟨x, x1, x2⟩, ⟨y, y1, y2⟩, z, z1, z2⟩ | ⟨q0, q1, ⟨y, y1, y2⟩, ⟨z, z1, z2⟩, -⟩ | ⟨q0, q1, q2, q3, ⟨r, r1, r2, r3⟩, -⟩
  · exact Or.inr (Or.inl ⟨q0, q2, q3, q4⟩)
  · exact Or.inl (Or.inl ⟨q0, q2, q3⟩)
  · exact Or.inl (Or.inr (Or.inl ⟨q0, q2⟩))
  · refine Or.inl (Or.inr (Or.inr (Or.inl ⟨q0, op, vl, x, q1, ⟨b1, b2⟩, ?_⟩)))
    rcases q2 with ⟨e1, e2, e3, -⟩ | ⟨e1, e2, -, -, ⟨j, j1, j2⟩, e3, e4, -⟩
    · exact Or.inl ⟨e1, e2, e3⟩
    · exact Or.inr ⟨e1, e2, by rw [j2]; exact hk j j1, e3, e4⟩
  · have w := sub x1 x2.nb.2.2 (c1 (one_k1 (oneX_T q1)))
    simp only [List.mem_cons, Prod.mk.injEq, List.not_mem_nil, or_false] at q1
    rcases q1 with ⟨q0, q1, q2⟩ | ⟨q0, q1, q2⟩ | ⟨q0, q1, q2⟩ | ⟨q0, q1, q2⟩ | ⟨q0, q1, q2⟩ | ⟨q0, q1, q2⟩
    · exact Or.inr (Or.inr (Or.inl ⟨q0, by rw [q1, q2]; decide, x, x1, by rw [q0] at x2; exact x2, w⟩))
    · exact Or.inr (Or.inr (Or.inl ⟨q0, by rw [q1, q2]; decide, x, x1, by rw [q0] at x2; exact x2, w⟩))
    · exact Or.inr (Or.inr (Or.inl ⟨q0, by rw [q1, q2]; decide, x, x1, by rw [q0] at x2; exact x2, w⟩))
    · exact Or.inr (Or.inr (Or.inl ⟨q0, by rw [q1, q2]; decide, x, x1, by rw [q0] at x2; exact x2, w⟩))
    · exact Or.inr (Or.inr (Or.inl ⟨q0, by rw [q1, q2]; decide, x, x1, by rw [q0] at x2; exact x2, w⟩))
    · exact Or.inr (Or.inr (Or.inr (Or.inr (Or.inr (Or.inr (Or.inr ⟨q0, q1, q2, x, x1, by rw [q0] at x2; exact x2, w⟩))))))
  · obtain ⟨w1, w2⟩ := c2 (two_k2 (twoX_T q1))
    have w1 := sub x1 x2.nb.2.2 w1
    have w2 := sub y1 y2.nb.2.2 w2
    simp only [List.mem_cons, Prod.mk.injEq, List.not_mem_nil, or_false] at q1
    have num : st = 0 → (mI M 3400 a, tA s 121 n) ∈ biF → NoX M s (LfE l U V M s) (fun st a n => SxR D M s l V K N h st a n ∧ LvB U s h n) st a n := fun q0 q => by
      subst q0
      exact Or.inr (Or.inr (Or.inr (Or.inl ⟨rfl, q, ⟨x, x1, x2, w1⟩, y, y1, y2, w2⟩)))
    have con : st = 1 → (mI M 3400 a, tA s 121 n) ∈ coF → NoX M s (LfE l U V M s) (fun st a n => SxR D M s l V K N h st a n ∧ LvB U s h n) st a n := fun q0 q => by
      subst q0
      exact Or.inr (Or.inr (Or.inr (Or.inr (Or.inr (Or.inr (Or.inl ⟨rfl, q, ⟨x, x1, x2, w1⟩, y, y1, y2, w2⟩))))))
    rcases q1 with ⟨q0, q1, q2⟩ | ⟨q0, q1, q2⟩ | ⟨q0, q1, q2⟩ | ⟨q0, q1, q2⟩ | ⟨q0, q1, q2⟩ | ⟨q0, q1, q2⟩ | ⟨q0, q1, q2⟩ | ⟨q0, q1, q2⟩
    · exact num q0 (by rw [q1, q2]; decide)
    · exact num q0 (by rw [q1, q2]; decide)
    · exact num q0 (by rw [q1, q2]; decide)
    · exact num q0 (by rw [q1, q2]; decide)
    · exact num q0 (by rw [q1, q2]; decide)
    · exact num q0 (by rw [q1, q2]; decide)
    · exact con q0 (by rw [q1, q2]; decide)
    · exact con q0 (by rw [q1, q2]; decide)
  · obtain ⟨w1, w2, w3⟩ := c3 q1
    exact Or.inr (Or.inr (Or.inr (Or.inr (Or.inl ⟨q0, q2, q1, ⟨x, x1, x2, sub x1 x2.nb.2.2 w1⟩, ⟨y, y1, y2, sub y1 y2.nb.2.2 w2⟩, z, z1, z2, sub z1 z2.nb.2.2 w3⟩))))
  · have k4 : tA s 121 n = 20 ∨ tA s 121 n = 25 := q1.imp (fun q => q.1) (fun q => q.1)
    obtain ⟨w1, w2⟩ := c4 k4
    refine Or.inr (Or.inr (Or.inr (Or.inr (Or.inr (Or.inl ⟨q0, k4, ?_, ⟨y, y1, y2, sub y1 y2.nb.2.2 w1⟩, z, z1, z2, sub z1 z2.nb.2.2 w2⟩)))))
    rcases q1 with ⟨-, q1, -⟩ | ⟨-, q1, -⟩
    · exact q1
    · simp only [List.mem_cons, Prod.mk.injEq, List.not_mem_nil, or_false] at q1
      rcases q1 with ⟨q1, q2⟩ | ⟨q1, q2⟩ <;> rw [q1, q2] <;> decide
  · obtain ⟨r', r1', r2', r3'⟩ := b3 (Or.inr q2)
    have : r' = r := nIq (r2'.symm.trans r3) (by omega) (by omega)
    subst this
    exact Or.inl (Or.inr (Or.inr (Or.inr ⟨q0, q1, q2, r', r1', r3', r2, r3⟩)))
/-- a step of evaluation writes the twin's stack alone -/
def RvI (M0 : CM) (σ0 : TS) : IvT := fun s t M σ => M = M0 ∧ Ft [170, 171] σ0 σ ∧ tI σ 171 = nI s ∧ ∀ j, j < s → tA σ 170 j = t j
def RvB (M0 : CM) (σ0 : TS) : BdT := fun s _ M σ w => ∃ r, r ≠ 0 ∧ M = wM M0 r 0 ∧ w = mn M0 ∧ tI σ 0 = r ∧ tI σ 1 = 0 ∧ tI σ 171 = nI s ∧ Ft [0, 1, 170, 171] σ0 σ
theorem sxe_k (E : EvV x2 V U K1 K2 N D M0 σ0) (z : SxE U V K1 K2 N D M0 σ0 h st a n) (hh : h ≠ 0) : mk M0 a = 18 ∧ n < 70000 := by
  obtain ⟨h, rfl⟩ : ∃ g, h = g + 1 := ⟨h - 1, by omega⟩
  obtain ⟨-, -, -, -, -, ⟨e1, e2⟩, -, -, h7⟩ := E
  rcases z.1 with ⟨⟨⟨k, k1, k2⟩, n1, n2⟩, -⟩ | ⟨⟨⟨k, k1, k2⟩, n1, n2⟩, -⟩
  · exact ⟨by rw [k2]; exact e1 k k1, by omega⟩
  · exact ⟨by rw [k2]; exact e2 k k1, by omega⟩
theorem sxe_0 : ¬ SxE U V K1 K2 N D M0 σ0 0 st a n := fun z => z.1.elim (fun z => z.elim) (fun z => z.elim)
theorem rv_sk (E : EvV x2 V U K1 K2 N D M0 σ0) : Sk (RvI M0 σ0) (RvB M0 σ0) M0 σ0 (SxE U V K1 K2 N D M0 σ0) := by
  have h0 := E.1.1
  have hc := E.2.2.2.2.1
  refine ⟨fun s t M σ I => ?_, fun s t M σ x I hs => ?_, fun s t M σ x I => ?_, fun s t M σ w b => ?_, fun s t M σ w x b => ?_, fun s t M σ r I hr => ?_⟩
  · obtain ⟨rfl, f, i1, i2⟩ := I
    refine ⟨⟨(f 0 rfl).1.trans h0, i1, i2⟩, hc, fun h s' a n r => ?_⟩
    have hh : h ≠ 0 := fun z => by subst z; exact sxe_0 r
    exact ⟨sxe_k E r hh, ⟨rfl, rfl, rfl, rfl, rfl⟩, (f 121 rfl).2.2.1 n, (f 122 rfl).2.2.1 n, (f 123 rfl).2.2.1 n, (f 124 rfl).2.2.1 n⟩
  · obtain ⟨rfl, f, i1, i2⟩ := I
    refine ⟨rfl, (f.p_tsA rfl).p_tsI rfl, rfl, fun j hj => ?_⟩
    show tA (tsA σ 170 s x) 170 j = if j = s then x else t j
    rw [tA_tsA]
    by_cases q : j = s
    · rw [ifT ⟨rfl, q⟩, ifT q]
    · rw [ifF (fun z => q z.2), ifF q]; exact i2 j (by omega)
  · obtain ⟨rfl, f, i1, i2⟩ := I
    refine ⟨rfl, f.p_tsI rfl, rfl, fun j hj => ?_⟩
    have this : tA σ 170 j = if j = s then x else t j := i2 j (by omega)
    rw [ifF (show ¬ j = s by omega)] at this
    exact this
  · obtain ⟨r, b1, -, -, b2, -, b3, -⟩ := b
    exact ⟨by rw [b2]; exact b1, b3⟩
  · obtain ⟨r, b1, b2, b3, b4, b5, b6, f⟩ := b
    exact ⟨r, b1, b2, b3, b4, b5, rfl, f.p_tsI rfl⟩
  · obtain ⟨rfl, f, i1, i2⟩ := I
    exact ⟨r, hr, rfl, rfl, rfl, rfl, i1, ((f.mono (by decide)).p_tsI rfl).p_tsI rfl⟩
/-- the leaves -/
theorem rv_lf (E : EvV x2 V U K1 K2 N D M0 σ0) (z : LfE l U V M0 σ0 0 a n) (ka : mk M0 a = 18) (hn : n < 70000) (f : Ft [170, 171] σ0 σ) : ∃ v, isV (d + 2) a M0 = some (.inl v, M0) ∧ gW (tf + 2) (nI n) x2 σ = some (v, σ) := by
  obtain ⟨⟨h0, ht, -⟩, eu, ev, -, -, -, V96, U180, -⟩ := E
  have h0' : tI σ 0 = 0 := (f 0 rfl).1.trans h0
  have ta : ∀ k, ([170, 171] : List Nat).contains k = false → ∀ j, tA σ k j = tA σ0 k j := fun k hk => (f k hk).2.2.1
  have lu : ∀ {v u x}, LfU σ0 v u x → LfU σ v u x := fun {v u x} h => by
    unfold LfU at *
    rw [ta 94 rfl, ta 178 rfl]
    obtain ⟨a1, ⟨w, w1, w2, w3⟩, a2⟩ := h
    exact ⟨a1, ⟨w, w1, (ta 177 rfl v).trans w2, (ta 179 rfl w).trans w3⟩, a2⟩
  rcases z with ⟨-, q1, q2⟩ | ⟨-, q1, v, ⟨v1, v2⟩, v3, v4, v5, v6⟩ | ⟨-, op, vl, x, q1, ⟨b1, b2⟩, q2⟩ | ⟨z, -⟩
  · exact ⟨_, iv_time ka q1, by rw [t_wTime h0' hn ((ta 121 rfl n).trans q2), (f 165 rfl).1, ht]⟩
  · obtain ⟨⟨e1, e2⟩, ⟨k, k1, k2⟩, e3, e4⟩ := ev v v1
    simp only [List.mem_cons, Prod.mk.injEq, List.not_mem_nil, or_false] at q1
    rcases q1 with ⟨q1, q2⟩ | ⟨q1, q2⟩
    · refine ⟨_, iv_var ka q1 v3 e4 e3, ?_⟩
      rw [t_wVar h0' hn ((ta 121 rfl n).trans q2), ta 122 rfl, v4]
      have : k = 1 ∨ k = 2 := by
        rcases k with - | - | - | k
        · exact absurd k2 v5
        · exact Or.inl rfl
        · exact Or.inr rfl
        · omega
      rcases this with rfl | rfl
      · obtain ⟨g1, g2⟩ := e1 k2
        rw [tv_k1 v2 ((ta 94 rfl v).trans k2) ((ta 160 rfl v).trans g2), ta 104 rfl, g1]
      · obtain ⟨g1, g2⟩ := e2 k2
        rw [tv_k2 v2 ((ta 94 rfl v).trans k2), ta 168 rfl, g1]
    · have k2' := v6 q2
      obtain ⟨g1, g2⟩ := e2 k2'
      refine ⟨_, iv_pre ka q1 v3 e4 e3, ?_⟩
      rw [t_wPre h0' hn ((ta 121 rfl n).trans q2), ta 122 rfl, v4, tp_k2 v2 ((ta 94 rfl v).trans k2'), ta 169 rfl, g2]
  · have key : ∃ v0, (∀ b, mk M0 b = 18 → mI M0 3400 b = op → mI M0 3401 b = vl → ∀ d, isV (d + 1) b M0 = some (.inl v0, M0)) ∧ gW (tf + 2) (nI n) x2 σ = some (if x = 1 then v0 else -v0, σ) := by
      rcases q1 with ⟨e, v, u, ⟨c1, -⟩, c2, c3, c4⟩ | ⟨e, v, u, ⟨c1, -⟩, c2, c3⟩ | ⟨e, v, u, ⟨c1, -⟩, c2, c3, c4⟩ | ⟨e, u, c1, c2, c3, c4, c5⟩
      · have uU := b1 v u x (Or.inl e) c1 c2
        refine ⟨mA M0 124 u, fun b hb o1 o2 d => iv_unk hb (o1.trans c3) (o2.trans c4) (by omega), ?_⟩
        rw [t_wVar h0' hn ((ta 121 rfl n).trans e), ta 122 rfl, c1, tv_k0 (lu c2), ta 166 rfl, (eu u uU).1]
      · have uU := b1 v u x (Or.inr (Or.inl e)) c1 c2
        obtain ⟨e1, -, e3, e4⟩ := eu u uU
        have e4' : tA σ 189 u = -1 ∨ ∃ w, w < 180 ∧ tA σ 189 u = nI w := by
          rw [ta 189 rfl]; exact e4.imp id (fun ⟨w, w1, w2⟩ => ⟨w, by omega, w2⟩)
        rcases c3 with ⟨-, c3, d0, d1, d2, d3⟩ | ⟨-, c3, c4⟩
        · have d0U : d0 < U := by
            rcases e4 with q | ⟨w, w1, w2⟩
            · exact absurd (q.symm.trans d2).symm (nI_m1 (by omega))
            · rw [nIq (d2.symm.trans w2) (by omega) (by omega)]; exact w1
          refine ⟨mA M0 124 d0, fun b hb o1 o2 d => iv_unk hb (o1.trans c3) (o2.trans d3) (by omega), ?_⟩
          rw [t_wDer h0' hn ((ta 121 rfl n).trans e), ta 122 rfl, c1, td_k0 (lu c2) e4', ta 189 rfl, d2, ifT (nn0 (by omega)), ix_nI (by omega), ta 166 rfl, (eu d0 d0U).1]
        · have e4m : mA M0 121 u = -1 ∨ ∃ w, w < 180 ∧ mA M0 121 u = nI w := by
            rw [e3]; exact e4.imp id (fun ⟨w, w1, w2⟩ => ⟨w, by omega, w2⟩)
          refine ⟨_, fun b hb o1 o2 d => iv_rate hb (o1.trans c3) (o2.trans c4) (by omega) e4m, ?_⟩
          rw [t_wDer h0' hn ((ta 121 rfl n).trans e), ta 122 rfl, c1, td_k0 (lu c2) e4', ta 189 rfl, e3]
          rcases e4 with q | ⟨w, w1, w2⟩
          · rw [q, ifF (show ¬ (0 : Int32) ≤ -1 by decide), ifF (show ¬ (0 : Int32) ≤ -1 by decide)]
          · rw [w2, ifT (nn0 (by omega)), ifT (nn0 (by omega)), ix_nI (by omega), ta 166 rfl, (eu w w1).1]
      · have uU := b1 v u x (Or.inr (Or.inr e)) c1 c2
        refine ⟨mA M0 125 u, fun b hb o1 o2 d => iv_bef hb (o1.trans c3) (o2.trans c4) (by omega), ?_⟩
        rw [t_wPre h0' hn ((ta 121 rfl n).trans e), ta 122 rfl, c1, tp_k0 (lu c2), ta 167 rfl, (eu u uU).2.1]
      · have uU := b2 u e c2 c1
        refine ⟨mA M0 124 u, fun b hb o1 o2 d => iv_unk hb (o1.trans c4) (o2.trans c5) (by omega), ?_⟩
        rw [t_wUnk h0' hn ((ta 121 rfl n).trans e), ta 122 rfl, c2, ifT (inb_nI' (by omega) (by decide)), ix_nI (by omega), ta 166 rfl, (eu u uU).1, c3, ifT rfl]
    obtain ⟨v0, g1, g2⟩ := key
    rcases q2 with ⟨e1, e2, e3⟩ | ⟨e1, e2, e3, e4, e5⟩
    · exact ⟨v0, g1 a ka e2 e3 _, by rw [g2, ifT e1]⟩
    · refine ⟨-v0, ?_, by rw [g2, ifF (by rw [e1]; decide)]⟩
      rw [(is_keq (d + 1) a M0 ka).2.2.1 (by rw [e2]; decide)]
      unfold eOne
      rw [g1 _ e3 e4 e5 d, obS_inl, e2]
      unfold K_X0_one
      rw [ifT rfl, obS_inl]
  · exact absurd z (by decide)
theorem rv_all (E : EvV x2 V U K1 K2 N D M0 σ0) : ∀ h, EvN (RvI M0 σ0) (RvB M0 σ0) (SxE U V K1 K2 N D M0 σ0) isV (kn h) 3 60000 x2 h ∧ EvC (RvI M0 σ0) (RvB M0 σ0) (SxE U V K1 K2 N D M0 σ0) isC (kc h) 3 60000 x2 h := by
  intro h
  have sk := rv_sk E
  have E0 := E
  obtain ⟨⟨h0, ht, hx⟩, eu, ev, er, -, ⟨ek1, ek2⟩, V96, U180, h7⟩ := E0
  have := ev_allX (x2 := x2) (Lf := fun st a n => ∃ l, LfE l U V M0 σ0 st a n) (L := 60000) (t0 := 3) sk is_keq (by decide) (by decide) (fun _ _ _ => sxe_0) (fun h st a n z => by
    rcases z with ⟨z | z, b⟩
    · exact (sx_nox (Or.inl rfl) h7 ek1 z b).mono (fun _ _ _ w => ⟨_, w⟩) (fun _ _ _ w => ⟨Or.inl w.1, w.2⟩)
    · exact (sx_nox (Or.inr rfl) h7 ek2 z b).mono (fun _ _ _ w => ⟨_, w⟩) (fun _ _ _ w => ⟨Or.inr w.1, w.2⟩)) ⟨fun h kf tf s t M σ a n hk ht r0 lf J hs => by
      obtain ⟨kf, rfl⟩ : ∃ g, kf = g + 2 := ⟨kf - 2, by omega⟩
      obtain ⟨tf, rfl⟩ : ∃ g, tf = g + 2 := ⟨tf - 2, by omega⟩
      obtain ⟨ka, hn⟩ := sxe_k E r0 (by omega)
      obtain ⟨rfl, f, j1, j2⟩ := J
      obtain ⟨l, lf⟩ := lf
      obtain ⟨v, g1, g2⟩ := rv_lf (d := kf) (tf := tf) E lf ka hn f
      exact Or.inr ⟨v, _, _, g1, g2, rfl, f, j1, j2⟩, fun a n lf => by
      obtain ⟨l, lf⟩ := lf
      rcases lf with ⟨-, -, q⟩ | ⟨-, q, -⟩ | ⟨-, op, vl, x, q, -⟩ | ⟨-, -, q, -⟩
      · rw [q]; decide
      · simp only [List.mem_cons, Prod.mk.injEq, List.not_mem_nil, or_false] at q
        rcases q with ⟨-, q⟩ | ⟨-, q⟩ <;> rw [q] <;> decide
      · rcases q with ⟨q, -⟩ | ⟨q, -⟩ | ⟨q, -⟩ | ⟨q, -⟩ <;> rw [q] <;> decide
      · rw [q]; decide, fun h kf tf s t M σ a n hk ht r0 lf J hs => by
      obtain ⟨kf, rfl⟩ : ∃ g, kf = g + 1 := ⟨kf - 1, by omega⟩
      obtain ⟨tf, rfl⟩ : ∃ g, tf = g + 1 := ⟨tf - 1, by omega⟩
      obtain ⟨ka, hn⟩ := sxe_k E r0 (by omega)
      obtain ⟨rfl, f, j1, j2⟩ := J
      obtain ⟨l, lf⟩ := lf
      rcases lf with ⟨q, -⟩ | ⟨q, -⟩ | ⟨q, -⟩ | ⟨-, q1, q2, r, r1, r2, r3, r4⟩
      · exact absurd q (by decide)
      · exact absurd q (by decide)
      · exact absurd q (by decide)
      · refine Or.inr ⟨_, _, _, is_smp ka q1 r3 r1, ?_, rfl, f, j1, j2⟩
        rw [t_hSmp ((f 0 rfl).1.trans h0) hn (((f 121 rfl).2.2.1 n).trans q2), (f 162 rfl).2.2.1, r4, ifT (inb_nI' r1 (by decide)), ix_nI (by omega), (f 163 rfl).2.2.1, er r r1 r2], fun h evn kf tf s t M σ a n x z hk ht r0 h1 h2 h3 h4 h5 h6 J hs => by
      obtain ⟨kf, rfl⟩ : ∃ g, kf = g + 2 := ⟨kf - 2, by omega⟩
      obtain ⟨tf, rfl⟩ : ∃ g, tf = g + 1 := ⟨tf - 1, by omega⟩
      obtain ⟨ka, hn⟩ := sxe_k E r0 (by omega)
      have J0 := J
      obtain ⟨e, f, j1, j2⟩ := J
      have e := e.symm
      subst e
      have h0' : tI σ 0 = 0 := (f 0 rfl).1.trans h0
      have nr : ¬ mI M0 3400 a = 26 ∧ ¬ mI M0 3400 a = 27 ∧ ¬ mI M0 3400 a = 28 ∧ ¬ mI M0 3400 a = 29 := by
        simp only [List.mem_cons, List.not_mem_nil, or_false, Prod.mk.injEq] at h2
        rcases h2 with ⟨q, -⟩ | ⟨q, -⟩ | ⟨q, -⟩ | ⟨q, -⟩ | ⟨q, -⟩ | ⟨q, -⟩ <;> rw [q] <;> decide
      have live := ev_live (tf := tf) (kf := kf) sk (by decide) evn r0 h2 h3 h4 h5 h6 (by omega) (by omega) J0 hs
      have num : (tA σ0 121 n = 20 ∧ ∃ r, r < 24 ∧ mI M0 3403 a = nI r ∧ tA σ0 162 n = nI r ∧ nI r < tI σ0 154) ∨ (tA σ0 121 n = 25 ∧ mI M0 3403 a = -1) := by
        have rq : tA σ0 121 n = 20 → RqOk σ0 n := fun q => r0.2.1.2.2 (Or.inl q)
        have gen : ∀ l K, SxR D M0 σ0 l V K N (h + 1) 1 a n → (tA σ0 121 n = 20 ∧ ∃ r, r < 24 ∧ mI M0 3403 a = nI r ∧ tA σ0 162 n = nI r ∧ nI r < tI σ0 154) ∨ (tA σ0 121 n = 25 ∧ mI M0 3403 a = -1) := fun l K z => by
          obtain ⟨-, -, z⟩ := z
          have k12 : tA σ0 121 n ∉ k1T ∧ tA σ0 121 n ∉ k2T ∧ ¬ tA σ0 121 n = 24 := by
            rcases h1 with q | q <;> rw [q] <;> decide
          rcases z with ⟨q0, -⟩ | ⟨q0, -⟩ | ⟨q1, -⟩ | ⟨q1, -⟩ | ⟨q0, -⟩ | ⟨-, ⟨q, -, r, r1, r2, r3⟩ | ⟨q, -, q2⟩, -⟩ | ⟨-, -, q, -⟩
          · exact absurd q0 (by decide)
          · exact absurd q0 (by decide)
          · exact absurd (one_k1 (oneX_T q1)) k12.1
          · exact absurd (two_k2 (twoX_T q1)) k12.2.1
          · exact absurd q0 (by decide)
          · obtain ⟨r', a1, a2, a3⟩ := rq q
            have : r' = r := nIq (a2.symm.trans r3) (by omega) (by omega)
            subst this
            exact Or.inl ⟨q, r', r1, r2, r3, a3⟩
          · exact Or.inr ⟨q, q2⟩
          · exact absurd q k12.2.2
        exact r0.1.elim (gen _ _) (gen _ _)
      rcases num with ⟨k, r, r1, r2, r3, r4⟩ | ⟨k, r2⟩
      · rcases hx with ⟨x1, x3⟩ | ⟨x1, x3⟩
        · subst x1
          refine Or.inr ⟨_, _, _, is_held ka nr x3 r2 r1, ?_, rfl, f, j1, j2⟩
          rw [t_hHeld h0' hn (((f 121 rfl).2.2.1 n).trans k) (((f 162 rfl).2.2.1 n).trans r3) r1, (f 163 rfl).2.2.1, er r r1 r4]
        · rw [is_lv ka nr (Or.inl x3), t_hRel h0' hn (((f 121 rfl).2.2.1 n).trans k) x1]
          exact live
      · rw [is_lv ka nr (Or.inr r2), t_hLv h0' hn (((f 121 rfl).2.2.1 n).trans k)]
        exact live⟩ h
  exact ⟨this.1, this.2.1⟩
end RUNEV
