/-! Layer B: the index: unknowns of a tree stay when unknowns are made -/
set_option maxRecDepth 100000
section NDU2
variable {s s' : TS} {U N n u : Nat} {x : Int32}
theorem LfK.mu {x : Int32} (h : LfK s n u x) (g : NdU s s' N U) (hn : n < N) (b : UW s U n) : LfK s' n u x := by
  unfold LfK
  rw [g.1 121 (by decide) n hn, g.1 122 (by decide) n hn]
  rcases h with ⟨a, v, b1, c⟩ | ⟨a, v, w, b1, c, d, e⟩ | a
  · exact Or.inl ⟨a, v, b1, c.mu g⟩
  · exact Or.inr (Or.inl ⟨a, v, w, b1, c.mu g, (g.2.2 w (b 1 w (Or.inl ⟨Or.inl a, v, x, b1, c⟩)) (by rw [d]; exact nI_m1 (by omega))).trans d, e⟩)
  · exact Or.inr (Or.inr a)
theorem OcU.ndu (h7 : N ≤ 70000) (x : NdU s s' N U) : ∀ (h st n u : Nat), TwT s N h st n → UW s U n → (OcU s' h n u ↔ OcU s h n u)
  | 0, _, _, _, t, _ => t.elim
  | h + 1, st, n, u, t, bw => by
    have ih := fun st n t b => OcU.ndu h7 x h st n u t b
    have sub : ∀ {x f}, tA s f n = nI x → x < N → UW s U (ix (tA s f n)) → UW s U x := fun e hx u => by rw [e, ix_nI (by omega)] at u; exact u
    have nb := t.nb
    have e1 := x.1 121 (by decide) n nb.2
    have e2 := x.1 122 (by decide) n nb.2
    have e3 := x.1 123 (by decide) n nb.2
    have e4 := x.1 124 (by decide) n nb.2
    have t0 := t
    rcases t.view with q | ⟨q, v, v1, v2⟩ | q | ⟨q, a, x1, x2⟩ | ⟨q, ⟨a, x1, x2⟩, b, y1, y2⟩ | ⟨q, ⟨a, x1, x2⟩, ⟨b, y1, y2⟩, c, w1, w2⟩ | ⟨q, ⟨b, y1, y2⟩, c, w1, w2⟩
    · have q' : tA s 121 n ∈ ([0, 1, 4, 24] : List Int32) := by
        simp only [List.mem_cons, List.not_mem_nil, or_false] at q
        rcases q with q | q | q <;> rw [q] <;> decide
      exact ⟨fun z => absurd z (OcU_0 (by rw [e1]; exact q')), fun z => absurd z (OcU_0 q')⟩
    · obtain ⟨-, t⟩ := t
      by_cases k4 : tA s 121 n = 4
      · exact ⟨fun z => absurd z (OcU_0 (by rw [e1, k4]; decide)), fun z => absurd z (OcU_0 (by rw [k4]; decide))⟩
      · rcases t with ⟨-, y | y⟩ | ⟨-, y, v', z1, z2, z3⟩ | ⟨-, u', x', y⟩ | ⟨-, y, -⟩ | ⟨y, -⟩ | ⟨y, -⟩ | ⟨-, y, -⟩ | ⟨-, y | y, -⟩ | ⟨-, y⟩
        · rw [y] at q; exact absurd q (by decide)
        · rw [y] at q; exact absurd q (by decide)
        · have y2 := y.resolve_right k4
          exact ⟨fun z => absurd z (OcU_v (by rw [e1]; exact y2) ⟨by rw [e2]; exact z2, z1, by rw [x.2.1 94 (by decide)]; exact z3⟩), fun z => absurd z (OcU_v y2 ⟨z2, z1, z3⟩)⟩
        · rw [OcU_u y, OcU_u (y.mu x nb.2 bw)]
        · exact absurd y k4
        · have y := one_k1 y
          simp only [List.mem_cons, List.not_mem_nil, or_false] at q
          rcases q with q | q | q <;> rw [q] at y <;> exact absurd y (by decide)
        · have y := two_k2 y
          simp only [List.mem_cons, List.not_mem_nil, or_false] at q
          rcases q with q | q | q <;> rw [q] at y <;> exact absurd y (by decide)
        · rw [y] at q; exact absurd q (by decide)
        · rw [y] at q; exact absurd q (by decide)
        · rw [y] at q; exact absurd q (by decide)
        · rw [y] at q; exact absurd q (by decide)
    · obtain ⟨-, t⟩ := t
      rcases t with ⟨-, y | y⟩ | ⟨-, y | y, -⟩ | ⟨-, u', x', y⟩ | ⟨-, y, -⟩ | ⟨y, -⟩ | ⟨y, -⟩ | ⟨-, y, -⟩ | ⟨-, y | y, -⟩ | ⟨-, y⟩
      · rw [y] at q; exact absurd q (by decide)
      · rw [y] at q; exact absurd q (by decide)
      · rw [y] at q; exact absurd q (by decide)
      · rw [y] at q; exact absurd q (by decide)
      · rw [OcU_u y, OcU_u (y.mu x nb.2 bw)]
      · rw [y] at q; exact absurd q (by decide)
      · have y := one_k1 y; rw [q] at y; exact absurd y (by decide)
      · have y := two_k2 y; rw [q] at y; exact absurd y (by decide)
      · rw [y] at q; exact absurd q (by decide)
      · rw [y] at q; exact absurd q (by decide)
      · rw [y] at q; exact absurd q (by decide)
      · rw [y] at q; exact absurd q (by decide)
    · have xx : ix (nI a) = a := ix_nI (by have := x2.nb; omega)
      rw [OcU_1 q, OcU_1 (s := s') (by rw [e1]; exact q), e2, x1, xx, ih _ _ x2 (sub x1 x2.nb.2 (bw.a (Or.inl q)))]
    · have xx : ix (nI a) = a := ix_nI (by have := x2.nb; omega)
      have yy : ix (nI b) = b := ix_nI (by have := y2.nb; omega)
      rw [OcU_2 q, OcU_2 (s := s') (by rw [e1]; exact q), e2, x1, xx, e3, y1, yy, ih _ _ x2 (sub x1 x2.nb.2 (bw.a (Or.inr (Or.inl q)))), ih _ _ y2 (sub y1 y2.nb.2 (bw.b (Or.inl q)))]
    · have xx : ix (nI a) = a := ix_nI (by have := x2.nb; omega)
      have yy : ix (nI b) = b := ix_nI (by have := y2.nb; omega)
      have ww : ix (nI c) = c := ix_nI (by have := w2.nb; omega)
      rw [OcU_3 q, OcU_3 (s := s') (by rw [e1]; exact q), e2, x1, xx, e3, y1, yy, e4, w1, ww, ih _ _ x2 (sub x1 x2.nb.2 (bw.a (Or.inr (Or.inr q)))), ih _ _ y2 (sub y1 y2.nb.2 (bw.b (Or.inr q))), ih _ _ w2 (sub w1 w2.nb.2 (bw.cd q))]
    · have yy : ix (nI b) = b := ix_nI (by have := y2.nb; omega)
      have ww : ix (nI c) = c := ix_nI (by have := w2.nb; omega)
      rw [OcU_4 q, OcU_4 (s := s') (by rw [e1]; exact q), e3, y1, yy, e4, w1, ww, ih _ _ y2 (sub y1 y2.nb.2 (fun H w z => bw (H + 1) w ((OcW_4 q).mpr (Or.inl z)))), ih _ _ w2 (sub w1 w2.nb.2 (fun H w z => bw (H + 1) w ((OcW_4 q).mpr (Or.inr z))))]
end NDU2
