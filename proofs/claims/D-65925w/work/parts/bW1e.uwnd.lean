/-! Layer B: the index: DER leaves of a tree stay when nodes are made -/
set_option maxRecDepth 100000
section UWND
variable {s s' : TS} {U U' N n w v H : Nat} {x : Int32}
theorem NdX.nu (g : NdX s s' N) : NdU s s' N U := ⟨g.1, g.2.1, fun u _ => g.2.2 u⟩
theorem NdU.tr {s1 s2 : TS} {N' U1 : Nat} (h : NdU s s1 N U) (g : NdU s1 s2 N' U1) (hN : N ≤ N') (hU : U ≤ U1) : NdU s s2 N U := ⟨fun f hf n hn => (g.1 f hf n (by omega)).trans (h.1 f hf n hn), fun f hf v => (g.2.1 f hf v).trans (h.2.1 f hf v), fun u hu z => by
  have e := h.2.2 u hu z
  exact (g.2.2 u (by omega) (by rw [e]; exact z)).trans e⟩
theorem LfU.nx {x : Int32} (g : NdU s s' N U) : LfU s' v w x ↔ LfU s v w x := by
  unfold LfU
  simp only [g.2.1 94 (by decide), g.2.1 177 (by decide), g.2.1 178 (by decide), g.2.1 179 (by decide)]
theorem OcW_d (e : tA s 121 n = 3 ∨ tA s 121 n = 4) : OcW s (H + 1) n w ↔ ∃ v x, tA s 122 n = nI v ∧ LfU s v w x := by
  rw [OcW]
  have hk : tA s 121 n ∉ k1T ∧ tA s 121 n ∉ k2T ∧ ¬ tA s 121 n = 16 ∧ ¬ (tA s 121 n = 20 ∨ tA s 121 n = 25) := by
    rcases e with e | e <;> rw [e] <;> decide
  refine ⟨fun z => ?_, fun z => Or.inl ⟨e, z⟩⟩
  rcases z with ⟨-, z⟩ | ⟨z, -⟩ | ⟨z, -⟩ | ⟨z, -⟩ | ⟨z, -⟩
  · exact z
  · exact absurd z hk.1
  · exact absurd z hk.2.1
  · exact absurd z hk.2.2.1
  · exact absurd z hk.2.2.2
theorem OcW.nd (h7 : N ≤ 70000) (g : NdU s s' N U) : ∀ (h st n w : Nat), TwT s N h st n → (OcW s' h n w ↔ OcW s h n w)
  | 0, _, _, _, t => t.elim
  | h + 1, st, n, w, t => by
    have ih := fun st n t => OcW.nd h7 g h st n w t
    have nb := t.nb
    have e1 := g.1 121 (by decide) n nb.2
    have e2 := g.1 122 (by decide) n nb.2
    have e3 := g.1 123 (by decide) n nb.2
    have e4 := g.1 124 (by decide) n nb.2
    have no : tA s 121 n ∈ ([0, 1, 2, 24, 30] : List Int32) → (OcW s' (h + 1) n w ↔ OcW s (h + 1) n w) := fun q => ⟨fun z => absurd z (OcW_0 (by rw [e1]; exact q)), fun z => absurd z (OcW_0 q)⟩
    rcases t.view with q | ⟨q, -⟩ | q | ⟨q, a, x1, x2⟩ | ⟨q, ⟨a, x1, x2⟩, b, y1, y2⟩ | ⟨q, ⟨a, x1, x2⟩, ⟨b, y1, y2⟩, c, w1, w2⟩ | ⟨q, ⟨b, y1, y2⟩, c, w1, w2⟩
    · refine no ?_
      simp only [List.mem_cons, List.not_mem_nil, or_false] at q
      rcases q with q | q | q <;> rw [q] <;> decide
    · simp only [List.mem_cons, List.not_mem_nil, or_false] at q
      rcases q with q | q | q
      · exact no (by rw [q]; decide)
      · rw [OcW_d (Or.inl q), OcW_d (s := s') (by rw [e1]; exact Or.inl q), e2]
        simp only [LfU.nx g]
      · rw [OcW_d (Or.inr q), OcW_d (s := s') (by rw [e1]; exact Or.inr q), e2]
        simp only [LfU.nx g]
    · exact no (by rw [q]; decide)
    · have xx : ix (nI a) = a := ix_nI (by have := x2.nb; omega)
      rw [OcW_1 q, OcW_1 (s := s') (by rw [e1]; exact q), e2, x1, xx, ih _ _ x2]
    · have xx : ix (nI a) = a := ix_nI (by have := x2.nb; omega)
      have yy : ix (nI b) = b := ix_nI (by have := y2.nb; omega)
      rw [OcW_2 q, OcW_2 (s := s') (by rw [e1]; exact q), e2, x1, xx, e3, y1, yy, ih _ _ x2, ih _ _ y2]
    · have xx : ix (nI a) = a := ix_nI (by have := x2.nb; omega)
      have yy : ix (nI b) = b := ix_nI (by have := y2.nb; omega)
      have ww : ix (nI c) = c := ix_nI (by have := w2.nb; omega)
      rw [OcW_3 q, OcW_3 (s := s') (by rw [e1]; exact q), e2, x1, xx, e3, y1, yy, e4, w1, ww, ih _ _ x2, ih _ _ y2, ih _ _ w2]
    · have yy : ix (nI b) = b := ix_nI (by have := y2.nb; omega)
      have ww : ix (nI c) = c := ix_nI (by have := w2.nb; omega)
      rw [OcW_4 q, OcW_4 (s := s') (by rw [e1]; exact q), e3, y1, yy, e4, w1, ww, ih _ _ y2, ih _ _ w2]
theorem OcW.dn (h7 : N ≤ 70000) : ∀ (h H st n u : Nat), TwT s N h st n → OcW s H n u → OcW s h n u
  | 0, _, _, _, _, t, _ => t.elim
  | _ + 1, 0, _, _, _, _, z => z.elim
  | h + 1, H + 1, st, n, u, t, z => by
    have ih := fun st x t z => OcW.dn h7 h H st x u t z
    rcases t.view with q | ⟨q, -⟩ | q | ⟨q, x, x1, x2⟩ | ⟨q, ⟨x, x1, x2⟩, y, y1, y2⟩ | ⟨q, ⟨x, x1, x2⟩, ⟨y, y1, y2⟩, w, w1, w2⟩ | ⟨q, ⟨y, y1, y2⟩, w, w1, w2⟩
    · refine absurd z (OcW_0 ?_)
      simp only [List.mem_cons, List.not_mem_nil, or_false] at q
      rcases q with q | q | q <;> rw [q] <;> decide
    · simp only [List.mem_cons, List.not_mem_nil, or_false] at q
      rcases q with q | q | q
      · exact absurd z (OcW_0 (by rw [q]; decide))
      · exact (OcW_d (Or.inl q)).mpr ((OcW_d (Or.inl q)).mp z)
      · exact (OcW_d (Or.inr q)).mpr ((OcW_d (Or.inr q)).mp z)
    · exact absurd z (OcW_0 (by rw [q]; decide))
    · have xx : ix (nI x) = x := ix_nI (by have := x2.nb; omega)
      have z := (OcW_1 q).mp z
      rw [x1, xx] at z
      exact (OcW_1 q).mpr (by rw [x1, xx]; exact ih _ _ x2 z)
    · have xx : ix (nI x) = x := ix_nI (by have := x2.nb; omega)
      have yy : ix (nI y) = y := ix_nI (by have := y2.nb; omega)
      have z := (OcW_2 q).mp z
      rw [x1, xx, y1, yy] at z
      exact (OcW_2 q).mpr (by rw [x1, xx, y1, yy]; exact z.imp (ih _ _ x2) (ih _ _ y2))
    · have xx : ix (nI x) = x := ix_nI (by have := x2.nb; omega)
      have yy : ix (nI y) = y := ix_nI (by have := y2.nb; omega)
      have ww : ix (nI w) = w := ix_nI (by have := w2.nb; omega)
      have z := (OcW_3 q).mp z
      rw [x1, xx, y1, yy, w1, ww] at z
      exact (OcW_3 q).mpr (by rw [x1, xx, y1, yy, w1, ww]; exact z.imp (fun z => z.imp (ih _ _ x2) (ih _ _ y2)) (ih _ _ w2))
    · have yy : ix (nI y) = y := ix_nI (by have := y2.nb; omega)
      have ww : ix (nI w) = w := ix_nI (by have := w2.nb; omega)
      have z := (OcW_4 q).mp z
      rw [y1, yy, w1, ww] at z
      exact (OcW_4 q).mpr (by rw [y1, yy, w1, ww]; exact z.imp (ih _ _ y2) (ih _ _ w2))
theorem UW.mv {h st : Nat} (b : UW s U' n) (h7 : N ≤ 70000) (g : NdU s s' N U) (t : TwT s N h st n) (t' : TwT s' N h st n) : UW s' U' n := fun H w z => b h w ((OcW.nd h7 g h st n w t).mp (OcW.dn h7 h H st n w t' z))
theorem UW.up (b : UW s U n) (h : U ≤ U') : UW s U' n := fun H w z => Nat.lt_of_lt_of_le (b H w z) h
end UWND
