/-! Layer B: the index: trees stay when unknowns are made -/
set_option maxRecDepth 100000
/-- nodes below N stay, links of unknowns below U too -/
def NdU (s s' : TS) (N U : Nat) : Prop := (∀ f, f ∈ [121, 122, 123, 124, 134] → ∀ n, n < N → tA s' f n = tA s f n) ∧ (∀ f, f ∈ [94, 162, 177, 178, 179] → ∀ v, tA s' f v = tA s f v) ∧ ∀ u, u < U → tA s 189 u ≠ -1 → tA s' 189 u = tA s 189 u
section NDU
variable {s s' : TS} {D D' : FQ} {M M' : CM} {l U V K K' N N' n u v w x y z h h' st a : Nat} {sx op vl : Int32}
theorem TwT.psu (g : NdU s s' N U) (h7 : N ≤ 70000) : ∀ (h h' st n : Nat), h ≤ h' → TwT s N h st n → PS s' h' n = PS s h n ∧ PH s' h' n = PH s h n
  | 0, _, _, _, _, q => q.elim
  | h + 1, 0, _, _, hh, _ => absurd hh (Nat.not_succ_le_zero h)
  | h + 1, h' + 1, st, n, hh, q => by
    have ih := fun st x q => TwT.psu g h7 h h' st x (Nat.le_of_succ_le_succ hh) q
    have n2 := q.nb.2
    have e1 := g.1 121 (by decide) n n2
    have e2 := g.1 122 (by decide) n n2
    have e3 := g.1 123 (by decide) n n2
    have e4 := g.1 124 (by decide) n n2
    rcases q.view with q | ⟨q, v, v1, v2⟩ | q | ⟨q, x, x1, x2⟩ | ⟨q, ⟨x, x1, x2⟩, y, y1, y2⟩ | ⟨q, ⟨x, x1, x2⟩, ⟨y, y1, y2⟩, z, z1, z2⟩ | ⟨q, ⟨y, y1, y2⟩, z, z1, z2⟩
    · have q' : tA s 121 n ∈ ([0, 1, 24, 30] : List Int32) := by
        simp only [List.mem_cons, List.not_mem_nil, or_false] at q
        rcases q with q | q | q <;> rw [q] <;> decide
      rw [(PS_0 (h := h) q').1, (PS_0 (h := h) q').2, (PS_0 (h := h') (s := s') (by rw [e1]; exact q')).1, (PS_0 (h := h') (s := s') (by rw [e1]; exact q')).2]
      exact ⟨rfl, rfl⟩
    · rw [(PS_v (h := h) q).1, (PS_v (h := h) q).2, (PS_v (h := h') (s := s') (by rw [e1]; exact q)).1, (PS_v (h := h') (s := s') (by rw [e1]; exact q)).2]
      have : ngv s' n ↔ ngv s n := by unfold ngv; rw [e2, g.2.1 94 (by decide), g.2.1 178 (by decide)]
      by_cases z : ngv s n
      · rw [ifT z, ifT (this.mpr z)]; exact ⟨rfl, rfl⟩
      · rw [ifF z, ifF (fun y => z (this.mp y))]; exact ⟨rfl, rfl⟩
    · have q' : tA s 121 n ∈ ([0, 1, 24, 30] : List Int32) := by rw [q]; decide
      rw [(PS_0 (h := h) q').1, (PS_0 (h := h) q').2, (PS_0 (h := h') (s := s') (by rw [e1]; exact q')).1, (PS_0 (h := h') (s := s') (by rw [e1]; exact q')).2]
      exact ⟨rfl, rfl⟩
    · have x3 : ix (nI x) = x := ix_nI (by have := x2.nb; omega)
      rw [(PS_1 (h := h) q).1, (PS_1 (h := h) q).2, (PS_1 (h := h') (s := s') (by rw [e1]; exact q)).1, (PS_1 (h := h') (s := s') (by rw [e1]; exact q)).2, e2, x1, x3, (ih _ _ x2).1, (ih _ _ x2).2]
      exact ⟨rfl, rfl⟩
    · have x3 : ix (nI x) = x := ix_nI (by have := x2.nb; omega)
      have y3 : ix (nI y) = y := ix_nI (by have := y2.nb; omega)
      rw [(PS_2 (h := h) q).1, (PS_2 (h := h) q).2, (PS_2 (h := h') (s := s') (by rw [e1]; exact q)).1, (PS_2 (h := h') (s := s') (by rw [e1]; exact q)).2, e2, e3, x1, x3, y1, y3, (ih _ _ x2).1, (ih _ _ x2).2, (ih _ _ y2).1, (ih _ _ y2).2]
      exact ⟨rfl, rfl⟩
    · have x3 : ix (nI x) = x := ix_nI (by have := x2.nb; omega)
      have y3 : ix (nI y) = y := ix_nI (by have := y2.nb; omega)
      have z3 : ix (nI z) = z := ix_nI (by have := z2.nb; omega)
      rw [(PS_3 (h := h) q).1, (PS_3 (h := h) q).2, (PS_3 (h := h') (s := s') (by rw [e1]; exact q)).1, (PS_3 (h := h') (s := s') (by rw [e1]; exact q)).2, e2, e3, e4, x1, x3, y1, y3, z1, z3, (ih _ _ x2).1, (ih _ _ x2).2, (ih _ _ y2).1, (ih _ _ y2).2, (ih _ _ z2).1, (ih _ _ z2).2]
      exact ⟨rfl, rfl⟩
    · have y3 : ix (nI y) = y := ix_nI (by have := y2.nb; omega)
      have z3 : ix (nI z) = z := ix_nI (by have := z2.nb; omega)
      rw [(PS_4 (h := h) q).1, (PS_4 (h := h) q).2, (PS_4 (h := h') (s := s') (by rw [e1]; exact q)).1, (PS_4 (h := h') (s := s') (by rw [e1]; exact q)).2, e3, e4, y1, y3, z1, z3, (ih _ _ y2).1, (ih _ _ y2).2, (ih _ _ z2).1, (ih _ _ z2).2]
      exact ⟨rfl, rfl⟩
theorem LfU.mu {x : Int32} (h : LfU s v u x) (g : NdU s s' N U) : LfU s' v u x := by
  obtain ⟨⟨a1, a2⟩, ⟨w, b1, b2, b3⟩, c1, c2, c3⟩ := h
  exact ⟨⟨(g.2.1 94 (by decide) v).trans a1, a2⟩, ⟨w, b1, (g.2.1 177 (by decide) v).trans b2, (g.2.1 179 (by decide) w).trans b3⟩, c1, (g.2.1 178 (by decide) v).trans c2, c3⟩
theorem LfO.mu {x : Int32} (z : LfO l V s n op vl x) (g : NdU s s' N U) (hn : n < N) (b : UW s U n) : LfO l V s' n op vl x := by
  unfold LfO
  rw [g.1 121 (by decide) n hn, g.1 122 (by decide) n hn]
  rcases z with ⟨e, v, u, b1, c, d⟩ | ⟨e, v, u, b1, c, ⟨e0, e1, d, d1, d2, d3⟩ | d⟩ | ⟨e, v, u, b1, c, d⟩ | z
  · exact Or.inl ⟨e, v, u, b1, c.mu g, d⟩
  · have uU : u < U := b 1 u (Or.inl ⟨Or.inl e, v, x, b1.1, c⟩)
    exact Or.inr (Or.inl ⟨e, v, u, b1, c.mu g, Or.inl ⟨e0, e1, d, d1, (g.2.2 u uU (by rw [d2]; exact nI_m1 (by omega))).trans d2, d3⟩⟩)
  · exact Or.inr (Or.inl ⟨e, v, u, b1, c.mu g, Or.inr d⟩)
  · exact Or.inr (Or.inr (Or.inl ⟨e, v, u, b1, c.mu g, d⟩))
  · exact Or.inr (Or.inr (Or.inr z))
theorem SxR.mu (g : SnK D M D' M' 134 K) (gx : NdU s s' N U) (hK : K ≤ K') (hN : N ≤ N') (h7 : N ≤ 70000) : ∀ (h st a n : Nat), SxR D M s 134 V K N h st a n → UW s U n → SxR D' M' s' 134 V K' N' h st a n
  | 0, _, _, _, z, _ => z.elim
  | h + 1, st, a, n, z, b => by
    have ih := fun st a n z b => SxR.mu g gx hK hN h7 h st a n z b
    have tw := SxR.tw _ _ _ _ z
    obtain ⟨⟨⟨k, k1, k2⟩, n1, n2⟩, ⟨t, t1, t2, t3⟩, z⟩ := z
    obtain ⟨g1, g2, g3⟩ := g k k1
    rw [← k2] at g1 g2 g3
    refine ⟨⟨⟨k, by omega, g1.symm⟩, n1, by omega⟩, ⟨t, (g2 3404).trans t1, t2, fun e => ?_⟩, ?_⟩
    · rw [(TwT.psu gx h7 (h + 1) (h + 1) st n (Nat.le_refl _) tw).2]; exact t3 rfl
    unfold lf3
    rw [g2, g2, g2, g2, g3, g3, g3, gx.1 121 (by decide) n n2, gx.1 122 (by decide) n n2, gx.1 123 (by decide) n n2, gx.1 124 (by decide) n n2, gx.2.1 162 (by decide)]
    have sub : ∀ {x f}, tA s f n = nI x → x < N → UW s U (ix (tA s f n)) → UW s U x := fun e hx u => by rw [e, ix_nI (by omega)] at u; exact u
    rcases z with ⟨q0, q1, q2⟩ | ⟨q0, op, vl, x, q1, q2⟩ | ⟨q1, ⟨x, x1, x2⟩, q3⟩ | ⟨q1, ⟨x, x1, x2⟩, ⟨y, y1, y2⟩, q3⟩ | ⟨q0, q2, q1, ⟨x, x1, x2⟩, ⟨y, y1, y2⟩, z, z1, z2⟩ | ⟨q0, q1, ⟨y, y1, y2⟩, ⟨z, z1, z2⟩, q3⟩ | z
    · exact Or.inl ⟨q0, q1, q2.imp id (fun q => q.imp id (fun ⟨q3, v, v1, v2, v3, v4⟩ => ⟨q3, v, v1, v2, v3, by rw [gx.2.1 94 (by decide)]; exact v4⟩))⟩
    · refine Or.inr (Or.inl ⟨q0, op, vl, x, q1.mu gx n2 b, q2.imp id (fun ⟨b0, b1, b2, b3, ⟨j, j1, j2⟩, b4, b5, b6, b7⟩ => ?_)⟩)
      obtain ⟨f1, f2, f3⟩ := g j j1
      rw [← j2] at f1 f2 f3
      rw [f2, f2, f2, f3, f3, f3]
      exact ⟨b0, b1, b2, b3, ⟨j, by omega, f1.symm⟩, b4, b5, b6, b7⟩
    · exact Or.inr (Or.inr (Or.inl ⟨q1, ⟨x, x1, ih _ _ _ x2 (sub x1 x2.nb.2.2 (b.a (Or.inl (one_k1 (oneX_T q1)))))⟩, q3⟩))
    · have k2 := two_k2 (twoX_T q1)
      exact Or.inr (Or.inr (Or.inr (Or.inl ⟨q1, ⟨x, x1, ih _ _ _ x2 (sub x1 x2.nb.2.2 (b.a (Or.inr (Or.inl k2))))⟩, ⟨y, y1, ih _ _ _ y2 (sub y1 y2.nb.2.2 (b.b (Or.inl k2)))⟩, q3⟩)))
    · exact Or.inr (Or.inr (Or.inr (Or.inr (Or.inl ⟨q0, q2, q1, ⟨x, x1, ih _ _ _ x2 (sub x1 x2.nb.2.2 (b.a (Or.inr (Or.inr q1))))⟩, ⟨y, y1, ih _ _ _ y2 (sub y1 y2.nb.2.2 (b.b (Or.inr q1)))⟩, z, z1, ih _ _ _ z2 (sub z1 z2.nb.2.2 (b.cd q1))⟩))))
    · have k4 : tA s 121 n = 20 ∨ tA s 121 n = 25 := q1.imp (fun q => q.1) (fun q => q.1)
      have by_ : UW s U (ix (tA s 123 n)) := fun H w z => b (H + 1) w ((OcW_4 k4).mpr (Or.inl z))
      have bz : UW s U (ix (tA s 124 n)) := fun H w z => b (H + 1) w ((OcW_4 k4).mpr (Or.inr z))
      exact Or.inr (Or.inr (Or.inr (Or.inr (Or.inr (Or.inl ⟨q0, q1, ⟨y, y1, ih _ _ _ y2 (sub y1 y2.nb.2.2 by_)⟩, ⟨z, z1, ih _ _ _ z2 (sub z1 z2.nb.2.2 bz)⟩, q3⟩)))))
    · exact Or.inr (Or.inr (Or.inr (Or.inr (Or.inr (Or.inr z)))))
end NDU
