/-! Layer B: the index: the unknowns whose derivatives stand as leaves -/
set_option maxRecDepth 100000
/-- a leaf DER or PRE of unknown w -/
def OcW (s : TS) : Nat → Nat → Nat → Prop
  | 0, _, _ => False
  | h + 1, n, w => ((tA s 121 n = 3 ∨ tA s 121 n = 4) ∧ ∃ v x, tA s 122 n = nI v ∧ LfU s v w x) ∨ (tA s 121 n ∈ k1T ∧ OcW s h (ix (tA s 122 n)) w) ∨ (tA s 121 n ∈ k2T ∧ (OcW s h (ix (tA s 122 n)) w ∨ OcW s h (ix (tA s 123 n)) w)) ∨ (tA s 121 n = 16 ∧ ((OcW s h (ix (tA s 122 n)) w ∨ OcW s h (ix (tA s 123 n)) w) ∨ OcW s h (ix (tA s 124 n)) w)) ∨ ((tA s 121 n = 20 ∨ tA s 121 n = 25) ∧ (OcW s h (ix (tA s 123 n)) w ∨ OcW s h (ix (tA s 124 n)) w))
def UW (s : TS) (U n : Nat) : Prop := ∀ H w, OcW s H n w → w < U
section OCW
variable {s s' : TS} {U N n m p q r d w h : Nat} {c k : Int32}
theorem OcW_0 (e : tA s 121 n ∈ ([0, 1, 2, 24, 30] : List Int32)) : ¬ OcW s (h + 1) n w := fun z => by
  rw [OcW] at z
  have hk : ¬ (tA s 121 n = 3 ∨ tA s 121 n = 4) ∧ tA s 121 n ∉ k1T ∧ tA s 121 n ∉ k2T ∧ ¬ tA s 121 n = 16 ∧ ¬ (tA s 121 n = 20 ∨ tA s 121 n = 25) := by
    simp only [List.mem_cons, List.not_mem_nil, or_false] at e
    rcases e with e | e | e | e | e <;> rw [e] <;> decide
  rcases z with ⟨z, -⟩ | ⟨z, -⟩ | ⟨z, -⟩ | ⟨z, -⟩ | ⟨z, -⟩
  · exact hk.1 z
  · exact hk.2.1 z
  · exact hk.2.2.1 z
  · exact hk.2.2.2.1 z
  · exact hk.2.2.2.2 z
theorem OcW_1 (e : tA s 121 n ∈ k1T) : OcW s (h + 1) n w ↔ OcW s h (ix (tA s 122 n)) w := by
  rw [OcW]
  have hk : ¬ (tA s 121 n = 3 ∨ tA s 121 n = 4) ∧ tA s 121 n ∉ k2T ∧ ¬ tA s 121 n = 16 ∧ ¬ (tA s 121 n = 20 ∨ tA s 121 n = 25) := by
    have e := e
    simp only [List.mem_cons, List.not_mem_nil, or_false] at e
    rcases e with e | e | e | e | e | e <;> rw [e] <;> decide
  refine ⟨fun z => ?_, fun z => Or.inr (Or.inl ⟨e, z⟩)⟩
  rcases z with ⟨z, -⟩ | ⟨-, z⟩ | ⟨z, -⟩ | ⟨z, -⟩ | ⟨z, -⟩
  · exact absurd z hk.1
  · exact z
  · exact absurd z hk.2.1
  · exact absurd z hk.2.2.1
  · exact absurd z hk.2.2.2
theorem OcW_2 (e : tA s 121 n ∈ k2T) : OcW s (h + 1) n w ↔ OcW s h (ix (tA s 122 n)) w ∨ OcW s h (ix (tA s 123 n)) w := by
  rw [OcW]
  have hk : ¬ (tA s 121 n = 3 ∨ tA s 121 n = 4) ∧ tA s 121 n ∉ k1T ∧ ¬ tA s 121 n = 16 ∧ ¬ (tA s 121 n = 20 ∨ tA s 121 n = 25) := by
    have e := e
    simp only [List.mem_cons, List.not_mem_nil, or_false] at e
    rcases e with e | e | e | e | e | e | e | e <;> rw [e] <;> decide
  refine ⟨fun z => ?_, fun z => Or.inr (Or.inr (Or.inl ⟨e, z⟩))⟩
  rcases z with ⟨z, -⟩ | ⟨z, -⟩ | ⟨-, z⟩ | ⟨z, -⟩ | ⟨z, -⟩
  · exact absurd z hk.1
  · exact absurd z hk.2.1
  · exact z
  · exact absurd z hk.2.2.1
  · exact absurd z hk.2.2.2
theorem OcW_3 (e : tA s 121 n = 16) : OcW s (h + 1) n w ↔ (OcW s h (ix (tA s 122 n)) w ∨ OcW s h (ix (tA s 123 n)) w) ∨ OcW s h (ix (tA s 124 n)) w := by
  rw [OcW, e]
  refine ⟨fun z => ?_, fun z => Or.inr (Or.inr (Or.inr (Or.inl ⟨rfl, z⟩)))⟩
  rcases z with ⟨z, -⟩ | ⟨z, -⟩ | ⟨z, -⟩ | ⟨-, z⟩ | ⟨z, -⟩
  · exact absurd z (by decide)
  · exact absurd z (by decide)
  · exact absurd z (by decide)
  · exact z
  · exact absurd z (by decide)
theorem OcW_4 (e : tA s 121 n = 20 ∨ tA s 121 n = 25) : OcW s (h + 1) n w ↔ OcW s h (ix (tA s 123 n)) w ∨ OcW s h (ix (tA s 124 n)) w := by
  rw [OcW]
  have hk : ¬ (tA s 121 n = 3 ∨ tA s 121 n = 4) ∧ tA s 121 n ∉ k1T ∧ tA s 121 n ∉ k2T ∧ ¬ tA s 121 n = 16 := by
    rcases e with e | e <;> rw [e] <;> decide
  refine ⟨fun z => ?_, fun z => Or.inr (Or.inr (Or.inr (Or.inr ⟨e, z⟩)))⟩
  rcases z with ⟨z, -⟩ | ⟨z, -⟩ | ⟨z, -⟩ | ⟨z, -⟩ | ⟨-, z⟩
  · exact absurd z hk.1
  · exact absurd z hk.2.1
  · exact absurd z hk.2.2.1
  · exact absurd z hk.2.2.2
  · exact z
theorem UW.lf (e : tA s 121 m ∈ ([0, 1, 2, 24, 30] : List Int32)) : UW s U m := fun H w z => by
  cases H with
  | zero => exact z.elim
  | succ H => exact absurd z (OcW_0 e)
theorem UW.o (i : is1 s N k m p) (hk : k ∈ k1T) (h1 : UW s U (ix (nI p))) : UW s U m := fun H w z => by
  cases H with
  | zero => exact z.elim
  | succ H =>
    have z := (OcW_1 (by rw [i.2.1]; exact hk)).mp z
    rw [i.2.2] at z
    exact h1 H w z
theorem UW.t (i : is2 s N k m p q) (hk : k ∈ k2T) (h1 : UW s U (ix (nI p))) (h2 : UW s U (ix (nI q))) : UW s U m := fun H w z => by
  cases H with
  | zero => exact z.elim
  | succ H =>
    have z := (OcW_2 (by rw [i.2.1]; exact hk)).mp z
    rw [i.2.2.1, i.2.2.2] at z
    exact z.elim (h1 H w) (h2 H w)
theorem UW.i (i : is3 s N m p q r) (h1 : UW s U (ix (nI p))) (h2 : UW s U (ix (nI q))) (h3 : UW s U (ix (nI r))) : UW s U m := fun H w z => by
  cases H with
  | zero => exact z.elim
  | succ H =>
    have z := (OcW_3 i.2.1).mp z
    rw [i.2.2.1, i.2.2.2.1, i.2.2.2.2] at z
    exact z.elim (fun z => z.elim (h1 H w) (h2 H w)) (h3 H w)
theorem UW.l (i : isL s N c m q r) (h2 : UW s U (ix (nI q))) (h3 : UW s U (ix (nI r))) : UW s U m := fun H w z => by
  cases H with
  | zero => exact z.elim
  | succ H =>
    have z := (OcW_4 (Or.inr i.2.1)).mp z
    rw [i.2.2.2.1, i.2.2.2.2] at z
    exact z.elim (h2 H w) (h3 H w)
theorem UW.a (h1 : UW s U n) (hk : tA s 121 n ∈ k1T ∨ tA s 121 n ∈ k2T ∨ tA s 121 n = 16) : UW s U (ix (tA s 122 n)) := fun H w z => h1 (H + 1) w (by
  rcases hk with hk | hk | hk
  · exact (OcW_1 hk).mpr z
  · exact (OcW_2 hk).mpr (Or.inl z)
  · exact (OcW_3 hk).mpr (Or.inl (Or.inl z)))
theorem UW.b (h1 : UW s U n) (hk : tA s 121 n ∈ k2T ∨ tA s 121 n = 16) : UW s U (ix (tA s 123 n)) := fun H w z => h1 (H + 1) w (by
  rcases hk with hk | hk
  · exact (OcW_2 hk).mpr (Or.inr z)
  · exact (OcW_3 hk).mpr (Or.inl (Or.inr z)))
theorem UW.cd (h1 : UW s U n) (hk : tA s 121 n = 16) : UW s U (ix (tA s 124 n)) := fun H w z => h1 (H + 1) w ((OcW_3 hk).mpr (Or.inr z))
/-- a derivative's DER leaves are the original's -/
theorem Der.uw (h7 : N ≤ 70000) : ∀ (h n m : Nat), Der s N h n m → UW s U n → UW s U m
  | 0, _, _, z, _ => z.elim
  | h + 1, n, m, z, b0 => by
    have ih := fun {a p} (z : Der s N h a p) (b : UW s U (ix (nI a))) => by
      have nb := z.nb
      have mb := Der.mb _ _ _ z
      rw [ix_nI (by omega)] at b
      have := Der.uw h7 h a p z b
      rw [← ix_nI (n := p) (by omega)] at this
      exact this
    obtain ⟨-, z⟩ := z
    have xx : ∀ {p}, p < N → ix (nI p) = p := fun hp => ix_nI (by omega)
    have nu : ∀ {m c}, isN s N m c → UW s U m := fun i => UW.lf (by rw [i.2.1]; decide)
    have un : ∀ {m d}, is1 s N 30 m d → UW s U m := fun i => UW.lf (by rw [i.2.1]; decide)
    rcases z with ⟨-, i⟩ | ⟨-, i⟩ | ⟨-, -, i⟩ | ⟨-, v, u, x, -, -, ⟨-, i⟩ | ⟨-, p, i, j⟩⟩ | ⟨u, x, d, lf, ⟨d1, d2⟩, ⟨-, i⟩ | ⟨-, p, i, j⟩⟩ | ⟨k, a, p, ea, da, i⟩ | ⟨k, a, b, p, q, ea, eb, da, db, i⟩ | ⟨k, a, b, p, q, l, r, ea, eb, da, db, il, ir, i⟩ | ⟨k, a, b, p, q, t, u, w, ea, eb, da, db, it, iu, iw, i⟩ | ⟨k, a, p, t, ea, da, it, i⟩ | ⟨k, a, p, t, u, w, ea, da, it, iw, iu, i⟩ | ⟨k, a, b, p, q, c, ea, eb, da, db, ic, i⟩ | ⟨k, c, a, b, p, q, ec, ea, eb, da, db, i⟩
    · exact nu i
    · exact nu i
    · exact nu i
    · exact nu i
    · exact UW.o i (by decide) (by rw [xx j.1.2]; exact nu j)
    · exact un i
    · exact UW.o i (by decide) (by rw [xx j.1.2]; exact un j)
    · have ba := b0.a (Or.inl (by rw [k]; decide))
      rw [ea] at ba
      exact UW.o i (by decide) (ih da ba)
    · have kk : tA s 121 n ∈ k2T := by rcases k with k | k <;> rw [k] <;> decide
      have ba := b0.a (Or.inr (Or.inl kk))
      have bb := b0.b (Or.inl kk)
      rw [ea] at ba
      rw [eb] at bb
      exact UW.t i kk (ih da ba) (ih db bb)
    · have kk : tA s 121 n ∈ k2T := by rw [k]; decide
      have ba := b0.a (Or.inr (Or.inl kk))
      have bb := b0.b (Or.inl kk)
      rw [ea] at ba
      rw [eb] at bb
      exact UW.t i (by decide) (by rw [xx il.1.2]; exact UW.t il (by decide) (ih da ba) bb) (by rw [xx ir.1.2]; exact UW.t ir (by decide) ba (ih db bb))
    · have kk : tA s 121 n ∈ k2T := by rw [k]; decide
      have ba := b0.a (Or.inr (Or.inl kk))
      have bb := b0.b (Or.inl kk)
      rw [ea] at ba
      rw [eb] at bb
      have ot : UW s U (ix (nI t)) := by rw [xx it.1.2]; exact UW.t it (by decide) ba bb
      have ou : UW s U (ix (nI u)) := by rw [xx iu.1.2]; exact UW.t iu (by decide) ot (ih db bb)
      have ow : UW s U (ix (nI w)) := by rw [xx iw.1.2]; exact UW.t iw (by decide) (ih da ba) ou
      exact UW.t i (by decide) ow bb
    · have ba := b0.a (Or.inl (by rw [k]; decide))
      rw [ea] at ba
      exact UW.t i (by decide) (by rw [xx it.1.2]; exact UW.o it (by decide) ba) (ih da ba)
    · have ba := b0.a (Or.inl (by rw [k]; decide))
      rw [ea] at ba
      have ot : UW s U (ix (nI t)) := by rw [xx it.1.2]; exact UW.o it (by decide) ba
      have ow : UW s U (ix (nI w)) := by rw [xx iw.1.2]; exact nu iw
      have ou : UW s U (ix (nI u)) := by rw [xx iu.1.2]; exact UW.t iu (by decide) ow ot
      exact UW.t i (by decide) (ih da ba) ou
    · have kk : tA s 121 n ∈ k2T := by rcases k with k | k <;> rw [k] <;> decide
      have ba := b0.a (Or.inr (Or.inl kk))
      have bb := b0.b (Or.inl kk)
      rw [ea] at ba
      rw [eb] at bb
      have oc : UW s U (ix (nI c)) := by rw [xx ic.1.2]; exact UW.l ic ba bb
      exact UW.i i oc (ih da ba) (ih db bb)
    · have bc := b0.a (Or.inr (Or.inr k))
      have ba := b0.b (Or.inr k)
      have bb := b0.cd k
      rw [ec] at bc
      rw [ea] at ba
      rw [eb] at bb
      exact UW.i i bc (ih da ba) (ih db bb)
end OCW
