/-! Layer B: the index: relations that stand in a tree have numbers below the count -/
set_option maxRecDepth 100000
/-- the number of a relation is a real one -/
def RqOk (s : TS) (n : Nat) : Prop := ∃ r, r < 24 ∧ tA s 162 n = nI r ∧ nI r < tI s 154
/-- a relation without a number stands in the tree -/
def OcQ (s : TS) : Nat → Nat → Prop
  | 0, _ => False
  | h + 1, n => ((tA s 121 n = 20 ∨ tA s 121 n = 24) ∧ ¬ RqOk s n) ∨ (tA s 121 n ∈ k1T ∧ OcQ s h (ix (tA s 122 n))) ∨ (tA s 121 n ∈ k2T ∧ (OcQ s h (ix (tA s 122 n)) ∨ OcQ s h (ix (tA s 123 n)))) ∨ (tA s 121 n = 16 ∧ ((OcQ s h (ix (tA s 122 n)) ∨ OcQ s h (ix (tA s 123 n))) ∨ OcQ s h (ix (tA s 124 n)))) ∨ ((tA s 121 n = 20 ∨ tA s 121 n = 25) ∧ (OcQ s h (ix (tA s 123 n)) ∨ OcQ s h (ix (tA s 124 n))))
def UQ (s : TS) (n : Nat) : Prop := ∀ H, ¬ OcQ s H n
def UX (s : TS) (U n : Nat) : Prop := UW s U n ∧ UQ s n
section UQS
variable {s s' : TS} {U U' N n m p q r d w h H : Nat} {c k : Int32}
theorem OcQ_0 (e : tA s 121 n ∈ ([0, 1, 2, 3, 4, 30] : List Int32)) : ¬ OcQ s (h + 1) n := fun z => by
  rw [OcQ] at z
  have hk : ¬ (tA s 121 n = 20 ∨ tA s 121 n = 24) ∧ tA s 121 n ∉ k1T ∧ tA s 121 n ∉ k2T ∧ ¬ tA s 121 n = 16 ∧ ¬ (tA s 121 n = 20 ∨ tA s 121 n = 25) := by
    simp only [List.mem_cons, List.not_mem_nil, or_false] at e
    rcases e with e | e | e | e | e | e <;> rw [e] <;> decide
  rcases z with ⟨z, -⟩ | ⟨z, -⟩ | ⟨z, -⟩ | ⟨z, -⟩ | ⟨z, -⟩
  · exact hk.1 z
  · exact hk.2.1 z
  · exact hk.2.2.1 z
  · exact hk.2.2.2.1 z
  · exact hk.2.2.2.2 z
theorem OcQ_1 (e : tA s 121 n ∈ k1T) : OcQ s (h + 1) n ↔ OcQ s h (ix (tA s 122 n)) := by
  rw [OcQ]
  have hk : ¬ (tA s 121 n = 20 ∨ tA s 121 n = 24) ∧ tA s 121 n ∉ k2T ∧ ¬ tA s 121 n = 16 ∧ ¬ (tA s 121 n = 20 ∨ tA s 121 n = 25) := by
    have e := e
    simp only [List.mem_cons, List.not_mem_nil, or_false] at e
    rcases e with e | e | e | e | e | e <;> rw [e] <;> decide
  refine ⟨fun z => ?_, fun z => Or.inr (Or.inl ⟨e, z⟩)⟩
  rcases z with ⟨z, -⟩ | ⟨-, z⟩ | ⟨z, -⟩ | ⟨z, -⟩ | ⟨z, -⟩
  · exact absurd z hk.1
  · exact z
  · exact absurd z hk.2.1
  · exact absurd z hk.2.2.1
  · exact absurd z hk.2.2.2
theorem OcQ_2 (e : tA s 121 n ∈ k2T) : OcQ s (h + 1) n ↔ OcQ s h (ix (tA s 122 n)) ∨ OcQ s h (ix (tA s 123 n)) := by
  rw [OcQ]
  have hk : ¬ (tA s 121 n = 20 ∨ tA s 121 n = 24) ∧ tA s 121 n ∉ k1T ∧ ¬ tA s 121 n = 16 ∧ ¬ (tA s 121 n = 20 ∨ tA s 121 n = 25) := by
    have e := e
    simp only [List.mem_cons, List.not_mem_nil, or_false] at e
    rcases e with e | e | e | e | e | e | e | e <;> rw [e] <;> decide
  refine ⟨fun z => ?_, fun z => Or.inr (Or.inr (Or.inl ⟨e, z⟩))⟩
  rcases z with ⟨z, -⟩ | ⟨z, -⟩ | ⟨-, z⟩ | ⟨z, -⟩ | ⟨z, -⟩
  · exact absurd z hk.1
  · exact absurd z hk.2.1
  · exact z
  · exact absurd z hk.2.2.1
  · exact absurd z hk.2.2.2
theorem OcQ_3 (e : tA s 121 n = 16) : OcQ s (h + 1) n ↔ (OcQ s h (ix (tA s 122 n)) ∨ OcQ s h (ix (tA s 123 n))) ∨ OcQ s h (ix (tA s 124 n)) := by
  rw [OcQ, e]
  refine ⟨fun z => ?_, fun z => Or.inr (Or.inr (Or.inr (Or.inl ⟨rfl, z⟩)))⟩
  rcases z with ⟨z, -⟩ | ⟨z, -⟩ | ⟨z, -⟩ | ⟨-, z⟩ | ⟨z, -⟩
  · exact absurd z (by decide)
  · exact absurd z (by decide)
  · exact absurd z (by decide)
  · exact z
  · exact absurd z (by decide)
theorem OcQ_4 (e : tA s 121 n = 20 ∨ tA s 121 n = 25) : OcQ s (h + 1) n ↔ (tA s 121 n = 20 ∧ ¬ RqOk s n) ∨ OcQ s h (ix (tA s 123 n)) ∨ OcQ s h (ix (tA s 124 n)) := by
  rw [OcQ]
  have hk : ¬ tA s 121 n = 24 ∧ tA s 121 n ∉ k1T ∧ tA s 121 n ∉ k2T ∧ ¬ tA s 121 n = 16 := by
    rcases e with e | e <;> rw [e] <;> decide
  refine ⟨fun z => ?_, fun z => z.elim (fun z => Or.inl ⟨Or.inl z.1, z.2⟩) (fun z => Or.inr (Or.inr (Or.inr (Or.inr ⟨e, z⟩))))⟩
  rcases z with ⟨z, z'⟩ | ⟨z, -⟩ | ⟨z, -⟩ | ⟨z, -⟩ | ⟨-, z⟩
  · exact Or.inl ⟨z.resolve_right hk.1, z'⟩
  · exact absurd z hk.2.1
  · exact absurd z hk.2.2.1
  · exact absurd z hk.2.2.2
  · exact Or.inr z
theorem OcQ_5 (e : tA s 121 n = 24) : OcQ s (h + 1) n ↔ ¬ RqOk s n := by
  rw [OcQ, e]
  refine ⟨fun z => ?_, fun z => Or.inl ⟨Or.inr rfl, z⟩⟩
  rcases z with ⟨-, z⟩ | ⟨z, -⟩ | ⟨z, -⟩ | ⟨z, -⟩ | ⟨z, -⟩
  · exact z
  all_goals exact absurd z (by decide)
theorem UQ.lf (e : tA s 121 m ∈ ([0, 1, 2, 30] : List Int32)) : UQ s m := fun H z => by
  cases H with
  | zero => exact z.elim
  | succ H => exact absurd z (OcQ_0 (by
      simp only [List.mem_cons, List.not_mem_nil, or_false] at e ⊢
      rcases e with e | e | e | e <;> simp [e]))
theorem UQ.o (i : is1 s N k m p) (hk : k ∈ k1T) (h1 : UQ s (ix (nI p))) : UQ s m := fun H z => by
  cases H with
  | zero => exact z.elim
  | succ H =>
    have z := (OcQ_1 (by rw [i.2.1]; exact hk)).mp z
    rw [i.2.2] at z
    exact h1 H z
theorem UQ.t (i : is2 s N k m p q) (hk : k ∈ k2T) (h1 : UQ s (ix (nI p))) (h2 : UQ s (ix (nI q))) : UQ s m := fun H z => by
  cases H with
  | zero => exact z.elim
  | succ H =>
    have z := (OcQ_2 (by rw [i.2.1]; exact hk)).mp z
    rw [i.2.2.1, i.2.2.2] at z
    exact z.elim (h1 H) (h2 H)
theorem UQ.i (i : is3 s N m p q r) (h1 : UQ s (ix (nI p))) (h2 : UQ s (ix (nI q))) (h3 : UQ s (ix (nI r))) : UQ s m := fun H z => by
  cases H with
  | zero => exact z.elim
  | succ H =>
    have z := (OcQ_3 i.2.1).mp z
    rw [i.2.2.1, i.2.2.2.1, i.2.2.2.2] at z
    exact z.elim (fun z => z.elim (h1 H) (h2 H)) (h3 H)
theorem UQ.l (i : isL s N c m q r) (h2 : UQ s (ix (nI q))) (h3 : UQ s (ix (nI r))) : UQ s m := fun H z => by
  cases H with
  | zero => exact z.elim
  | succ H =>
    have z := (OcQ_4 (Or.inr i.2.1)).mp z
    rw [i.2.2.2.1, i.2.2.2.2, i.2.1] at z
    rcases z with ⟨z, -⟩ | z | z
    · exact absurd z (by decide)
    · exact h2 H z
    · exact h3 H z
theorem UQ.a (h1 : UQ s n) (hk : tA s 121 n ∈ k1T ∨ tA s 121 n ∈ k2T ∨ tA s 121 n = 16) : UQ s (ix (tA s 122 n)) := fun H z => h1 (H + 1) (by
  rcases hk with hk | hk | hk
  · exact (OcQ_1 hk).mpr z
  · exact (OcQ_2 hk).mpr (Or.inl z)
  · exact (OcQ_3 hk).mpr (Or.inl (Or.inl z)))
theorem UQ.b (h1 : UQ s n) (hk : tA s 121 n ∈ k2T ∨ tA s 121 n = 16) : UQ s (ix (tA s 123 n)) := fun H z => h1 (H + 1) (by
  rcases hk with hk | hk
  · exact (OcQ_2 hk).mpr (Or.inr z)
  · exact (OcQ_3 hk).mpr (Or.inl (Or.inr z)))
theorem UQ.cd (h1 : UQ s n) (hk : tA s 121 n = 16) : UQ s (ix (tA s 124 n)) := fun H z => h1 (H + 1) ((OcQ_3 hk).mpr (Or.inr z))
theorem UQ.y (h1 : UQ s n) (hk : tA s 121 n = 20 ∨ tA s 121 n = 25) : UQ s (ix (tA s 123 n)) := fun H z => h1 (H + 1) ((OcQ_4 hk).mpr (Or.inr (Or.inl z)))
theorem UQ.z (h1 : UQ s n) (hk : tA s 121 n = 20 ∨ tA s 121 n = 25) : UQ s (ix (tA s 124 n)) := fun H z => h1 (H + 1) ((OcQ_4 hk).mpr (Or.inr (Or.inr z)))
theorem UQ.rel (h1 : UQ s n) (hk : tA s 121 n = 20 ∨ tA s 121 n = 24) : RqOk s n := Classical.byContradiction fun z => h1 1 (by
  rcases hk with hk | hk
  · exact (OcQ_4 (Or.inl hk)).mpr (Or.inl ⟨hk, z⟩)
  · exact (OcQ_5 hk).mpr z)
theorem Der.uq (h7 : N ≤ 70000) : ∀ (h n m : Nat), Der s N h n m → UQ s n → UQ s m
  | 0, _, _, z, _ => z.elim
  | h + 1, n, m, z, b0 => by
    have ih := fun {a p} (z : Der s N h a p) (b : UQ s (ix (nI a))) => by
      have nb := z.nb
      have mb := Der.mb _ _ _ z
      rw [ix_nI (by omega)] at b
      have := Der.uq h7 h a p z b
      rw [← ix_nI (n := p) (by omega)] at this
      exact this
    obtain ⟨-, z⟩ := z
    have xx : ∀ {p}, p < N → ix (nI p) = p := fun hp => ix_nI (by omega)
    have nu : ∀ {m c}, isN s N m c → UQ s m := fun i => UQ.lf (by rw [i.2.1]; decide)
    have un : ∀ {m d}, is1 s N 30 m d → UQ s m := fun i => UQ.lf (by rw [i.2.1]; decide)
    rcases z with ⟨-, i⟩ | ⟨-, i⟩ | ⟨-, -, i⟩ | ⟨-, v, u, x, -, -, ⟨-, i⟩ | ⟨-, p, i, j⟩⟩ | ⟨u, x, d, lf, ⟨d1, d2⟩, ⟨-, i⟩ | ⟨-, p, i, j⟩⟩ | ⟨k, a, p, ea, da, i⟩ | ⟨k, a, b, p, q, ea, eb, da, db, i⟩ | ⟨k, a, b, p, q, l, r, ea, eb, da, db, il, ir, i⟩ | ⟨k, a, b, p, q, t, u, w, ea, eb, da, db, it, iu, iw, i⟩ | ⟨k, a, p, t, ea, da, it, i⟩ | ⟨k, a, p, t, u, w, ea, da, it, iw, iu, i⟩ | ⟨k, a, b, p, q, c, ea, eb, da, db, ic, i⟩ | ⟨k, c, a, b, p, q, ec, ea, eb, da, db, i⟩
    · exact nu i
    · exact nu i
    · exact nu i
    · exact nu i
    · exact UQ.o i (by decide) (by rw [xx j.1.2]; exact nu j)
    · exact un i
    · exact UQ.o i (by decide) (by rw [xx j.1.2]; exact un j)
    · have ba := b0.a (Or.inl (by rw [k]; decide))
      rw [ea] at ba
      exact UQ.o i (by decide) (ih da ba)
    · have kk : tA s 121 n ∈ k2T := by rcases k with k | k <;> rw [k] <;> decide
      have ba := b0.a (Or.inr (Or.inl kk))
      have bb := b0.b (Or.inl kk)
      rw [ea] at ba
      rw [eb] at bb
      exact UQ.t i kk (ih da ba) (ih db bb)
    · have kk : tA s 121 n ∈ k2T := by rw [k]; decide
      have ba := b0.a (Or.inr (Or.inl kk))
      have bb := b0.b (Or.inl kk)
      rw [ea] at ba
      rw [eb] at bb
      exact UQ.t i (by decide) (by rw [xx il.1.2]; exact UQ.t il (by decide) (ih da ba) bb) (by rw [xx ir.1.2]; exact UQ.t ir (by decide) ba (ih db bb))
    · have kk : tA s 121 n ∈ k2T := by rw [k]; decide
      have ba := b0.a (Or.inr (Or.inl kk))
      have bb := b0.b (Or.inl kk)
      rw [ea] at ba
      rw [eb] at bb
      have ot : UQ s (ix (nI t)) := by rw [xx it.1.2]; exact UQ.t it (by decide) ba bb
      have ou : UQ s (ix (nI u)) := by rw [xx iu.1.2]; exact UQ.t iu (by decide) ot (ih db bb)
      have ow : UQ s (ix (nI w)) := by rw [xx iw.1.2]; exact UQ.t iw (by decide) (ih da ba) ou
      exact UQ.t i (by decide) ow bb
    · have ba := b0.a (Or.inl (by rw [k]; decide))
      rw [ea] at ba
      exact UQ.t i (by decide) (by rw [xx it.1.2]; exact UQ.o it (by decide) ba) (ih da ba)
    · have ba := b0.a (Or.inl (by rw [k]; decide))
      rw [ea] at ba
      have ot : UQ s (ix (nI t)) := by rw [xx it.1.2]; exact UQ.o it (by decide) ba
      have ow : UQ s (ix (nI w)) := by rw [xx iw.1.2]; exact nu iw
      have ou : UQ s (ix (nI u)) := by rw [xx iu.1.2]; exact UQ.t iu (by decide) ow ot
      exact UQ.t i (by decide) (ih da ba) ou
    · have kk : tA s 121 n ∈ k2T := by rcases k with k | k <;> rw [k] <;> decide
      have ba := b0.a (Or.inr (Or.inl kk))
      have bb := b0.b (Or.inl kk)
      rw [ea] at ba
      rw [eb] at bb
      have oc : UQ s (ix (nI c)) := by rw [xx ic.1.2]; exact UQ.l ic ba bb
      exact UQ.i i oc (ih da ba) (ih db bb)
    · have bc := b0.a (Or.inr (Or.inr k))
      have ba := b0.b (Or.inr k)
      have bb := b0.cd k
      rw [ec] at bc
      rw [ea] at ba
      rw [eb] at bb
      exact UQ.i i bc (ih da ba) (ih db bb)
theorem RqOk.nd (g : NdU s s' N U) (h4 : tI s' 154 = tI s 154) : RqOk s' n ↔ RqOk s n := by
  unfold RqOk
  simp only [g.2.1 162 (by decide), h4]
theorem OcQ.nd (h7 : N ≤ 70000) (g : NdU s s' N U) (h4 : tI s' 154 = tI s 154) : ∀ (h st n : Nat), TwT s N h st n → (OcQ s' h n ↔ OcQ s h n)
  | 0, _, _, t => t.elim
  | h + 1, st, n, t => by
    have ih := fun st n t => OcQ.nd h7 g h4 h st n t
    have nb := t.nb
    have e1 := g.1 121 (by decide) n nb.2
    have e2 := g.1 122 (by decide) n nb.2
    have e3 := g.1 123 (by decide) n nb.2
    have e4 := g.1 124 (by decide) n nb.2
    have rk : RqOk s' n ↔ RqOk s n := RqOk.nd g h4
    have no : tA s 121 n ∈ ([0, 1, 2, 3, 4, 30] : List Int32) → (OcQ s' (h + 1) n ↔ OcQ s (h + 1) n) := fun q => ⟨fun z => absurd z (OcQ_0 (by rw [e1]; exact q)), fun z => absurd z (OcQ_0 q)⟩
    rcases t.view with q | ⟨q, -⟩ | q | ⟨q, a, x1, x2⟩ | ⟨q, ⟨a, x1, x2⟩, b, y1, y2⟩ | ⟨q, ⟨a, x1, x2⟩, ⟨b, y1, y2⟩, c, w1, w2⟩ | ⟨q, ⟨b, y1, y2⟩, c, w1, w2⟩
    · simp only [List.mem_cons, List.not_mem_nil, or_false] at q
      rcases q with q | q | q
      · exact no (by rw [q]; decide)
      · exact no (by rw [q]; decide)
      · rw [OcQ_5 q, OcQ_5 (s := s') (by rw [e1]; exact q), rk]
    · refine no ?_
      simp only [List.mem_cons, List.not_mem_nil, or_false] at q
      rcases q with q | q | q <;> rw [q] <;> decide
    · exact no (by rw [q]; decide)
    · have xx : ix (nI a) = a := ix_nI (by have := x2.nb; omega)
      rw [OcQ_1 q, OcQ_1 (s := s') (by rw [e1]; exact q), e2, x1, xx, ih _ _ x2]
    · have xx : ix (nI a) = a := ix_nI (by have := x2.nb; omega)
      have yy : ix (nI b) = b := ix_nI (by have := y2.nb; omega)
      rw [OcQ_2 q, OcQ_2 (s := s') (by rw [e1]; exact q), e2, x1, xx, e3, y1, yy, ih _ _ x2, ih _ _ y2]
    · have xx : ix (nI a) = a := ix_nI (by have := x2.nb; omega)
      have yy : ix (nI b) = b := ix_nI (by have := y2.nb; omega)
      have ww : ix (nI c) = c := ix_nI (by have := w2.nb; omega)
      rw [OcQ_3 q, OcQ_3 (s := s') (by rw [e1]; exact q), e2, x1, xx, e3, y1, yy, e4, w1, ww, ih _ _ x2, ih _ _ y2, ih _ _ w2]
    · have yy : ix (nI b) = b := ix_nI (by have := y2.nb; omega)
      have ww : ix (nI c) = c := ix_nI (by have := w2.nb; omega)
      rw [OcQ_4 q, OcQ_4 (s := s') (by rw [e1]; exact q), e1, rk, e3, y1, yy, e4, w1, ww, ih _ _ y2, ih _ _ w2]
theorem OcQ.dn (h7 : N ≤ 70000) : ∀ (h H st n : Nat), TwT s N h st n → OcQ s H n → OcQ s h n
  | 0, _, _, _, t, _ => t.elim
  | _ + 1, 0, _, _, _, z => z.elim
  | h + 1, H + 1, st, n, t, z => by
    have ih := fun st x t z => OcQ.dn h7 h H st x t z
    rcases t.view with q | ⟨q, -⟩ | q | ⟨q, x, x1, x2⟩ | ⟨q, ⟨x, x1, x2⟩, y, y1, y2⟩ | ⟨q, ⟨x, x1, x2⟩, ⟨y, y1, y2⟩, w, w1, w2⟩ | ⟨q, ⟨y, y1, y2⟩, w, w1, w2⟩
    · simp only [List.mem_cons, List.not_mem_nil, or_false] at q
      rcases q with q | q | q
      · exact absurd z (OcQ_0 (by rw [q]; decide))
      · exact absurd z (OcQ_0 (by rw [q]; decide))
      · exact (OcQ_5 q).mpr ((OcQ_5 q).mp z)
    · refine absurd z (OcQ_0 ?_)
      simp only [List.mem_cons, List.not_mem_nil, or_false] at q
      rcases q with q | q | q <;> rw [q] <;> decide
    · exact absurd z (OcQ_0 (by rw [q]; decide))
    · have xx : ix (nI x) = x := ix_nI (by have := x2.nb; omega)
      have z := (OcQ_1 q).mp z
      rw [x1, xx] at z
      exact (OcQ_1 q).mpr (by rw [x1, xx]; exact ih _ _ x2 z)
    · have xx : ix (nI x) = x := ix_nI (by have := x2.nb; omega)
      have yy : ix (nI y) = y := ix_nI (by have := y2.nb; omega)
      have z := (OcQ_2 q).mp z
      rw [x1, xx, y1, yy] at z
      exact (OcQ_2 q).mpr (by rw [x1, xx, y1, yy]; exact z.imp (ih _ _ x2) (ih _ _ y2))
    · have xx : ix (nI x) = x := ix_nI (by have := x2.nb; omega)
      have yy : ix (nI y) = y := ix_nI (by have := y2.nb; omega)
      have ww : ix (nI w) = w := ix_nI (by have := w2.nb; omega)
      have z := (OcQ_3 q).mp z
      rw [x1, xx, y1, yy, w1, ww] at z
      exact (OcQ_3 q).mpr (by rw [x1, xx, y1, yy, w1, ww]; exact z.imp (fun z => z.imp (ih _ _ x2) (ih _ _ y2)) (ih _ _ w2))
    · have yy : ix (nI y) = y := ix_nI (by have := y2.nb; omega)
      have ww : ix (nI w) = w := ix_nI (by have := w2.nb; omega)
      have z := (OcQ_4 q).mp z
      rw [y1, yy, w1, ww] at z
      exact (OcQ_4 q).mpr (by rw [y1, yy, w1, ww]; exact z.imp id (fun z => z.imp (ih _ _ y2) (ih _ _ w2)))
theorem UQ.mv {h st : Nat} (b : UQ s n) (h7 : N ≤ 70000) (g : NdU s s' N U) (h4 : tI s' 154 = tI s 154) (t : TwT s N h st n) (t' : TwT s' N h st n) : UQ s' n := fun H z => b h ((OcQ.nd h7 g h4 h st n t).mp (OcQ.dn h7 h H st n t' z))
theorem UX.mv {h st : Nat} (b : UX s U' n) (h7 : N ≤ 70000) (g : NdU s s' N U) (h4 : tI s' 154 = tI s 154) (t : TwT s N h st n) (t' : TwT s' N h st n) : UX s' U' n := ⟨b.1.mv h7 g t t', b.2.mv h7 g h4 t t'⟩
theorem UX.up (b : UX s U n) (h : U ≤ U') : UX s U' n := ⟨b.1.up h, b.2⟩
theorem Der.ux (h7 : N ≤ 70000) (z : Der s N h n m) (b : UX s U n) : UX s U m := ⟨Der.uw h7 h n m z b.1, Der.uq h7 h n m z b.2⟩
end UQS
