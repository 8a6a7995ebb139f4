/-! Layer B: the index: unknowns of a derivative -/
set_option maxRecDepth 100000
/-- unknowns of a tree, and their derivatives, lie below U -/
def UB (s : TS) (U n : Nat) : Prop := ∀ H u, OcU s H n u → u < U ∧ ∀ d, tA s 189 u = nI d → d < 180 → d < U
def UO (s : TS) (U n : Nat) : Prop := ∀ H u, OcU s H n u → u < U
section UBOUND
variable {s s' : TS} {U N n m p q r d : Nat} {c k : Int32}
theorem UO.nu (i : isN s N m c) : UO s U m := fun H u z => by
  cases H with
  | zero => exact z.elim
  | succ H => exact absurd z (OcU_0 (by rw [i.2.1]; decide))
theorem UO.un (i : is1 s N 30 m d) (hd : d < 180) (hU : d < U) : UO s U m := fun H u z => by
  cases H with
  | zero => exact z.elim
  | succ H =>
    have l : LfK s m d 1 := Or.inr (Or.inr ⟨i.2.1, i.2.2, hd, rfl⟩)
    rw [(OcU_u l).mp z]; exact hU
theorem UO.o (i : is1 s N k m p) (hk : k ∈ k1T) (h : UO s U (ix (nI p))) : UO s U m := fun H u z => by
  cases H with
  | zero => exact z.elim
  | succ H =>
    have z := (OcU_1 (by rw [i.2.1]; exact hk)).mp z
    rw [i.2.2] at z
    exact h H u z
theorem UO.t (i : is2 s N k m p q) (hk : k ∈ k2T) (h : UO s U (ix (nI p))) (h2 : UO s U (ix (nI q))) : UO s U m := fun H u z => by
  cases H with
  | zero => exact z.elim
  | succ H =>
    have z := (OcU_2 (by rw [i.2.1]; exact hk)).mp z
    rw [i.2.2.1, i.2.2.2] at z
    exact z.elim (h H u) (h2 H u)
theorem UO.i (i : is3 s N m p q r) (h : UO s U (ix (nI p))) (h2 : UO s U (ix (nI q))) (h3 : UO s U (ix (nI r))) : UO s U m := fun H u z => by
  cases H with
  | zero => exact z.elim
  | succ H =>
    have z := (OcU_3 i.2.1).mp z
    rw [i.2.2.1, i.2.2.2.1, i.2.2.2.2] at z
    exact z.elim (fun z => z.elim (h H u) (h2 H u)) (h3 H u)
theorem UO.l (i : isL s N c m q r) (h2 : UO s U (ix (nI q))) (h3 : UO s U (ix (nI r))) : UO s U m := fun H u z => by
  cases H with
  | zero => exact z.elim
  | succ H =>
    have z := (OcU_4 (Or.inr i.2.1)).mp z
    rw [i.2.2.2.1, i.2.2.2.2] at z
    exact z.elim (h2 H u) (h3 H u)
theorem UB.ok (h : UB s U n) : UO s U n := fun H u z => (h H u z).1
theorem UB.a (h : UB s U n) (hk : tA s 121 n ∈ k1T ∨ tA s 121 n ∈ k2T ∨ tA s 121 n = 16) : UB s U (ix (tA s 122 n)) := fun H u z => h (H + 1) u (by
  rcases hk with hk | hk | hk
  · exact (OcU_1 hk).mpr z
  · exact (OcU_2 hk).mpr (Or.inl z)
  · exact (OcU_3 hk).mpr (Or.inl (Or.inl z)))
theorem UB.b (h : UB s U n) (hk : tA s 121 n ∈ k2T ∨ tA s 121 n = 16) : UB s U (ix (tA s 123 n)) := fun H u z => h (H + 1) u (by
  rcases hk with hk | hk
  · exact (OcU_2 hk).mpr (Or.inr z)
  · exact (OcU_3 hk).mpr (Or.inl (Or.inr z)))
theorem UB.cd (h : UB s U n) (hk : tA s 121 n = 16) : UB s U (ix (tA s 124 n)) := fun H u z => h (H + 1) u ((OcU_3 hk).mpr (Or.inr z))
theorem Der.mb : ∀ (h n m : Nat), Der s N h n m → 1 ≤ m ∧ m < N
  | 0, _, _, z => z.elim
  | h + 1, n, m, z => by
    obtain ⟨-, z⟩ := z
    rcases z with ⟨-, i⟩ | ⟨-, i⟩ | ⟨-, -, i⟩ | ⟨-, v, u, x, -, -, ⟨-, i⟩ | ⟨-, p, i, -⟩⟩ | ⟨u, x, d, -, -, ⟨-, i⟩ | ⟨-, p, i, -⟩⟩ | ⟨-, a, p, -, -, i⟩ | ⟨-, a, b, p, q, -, -, -, -, i⟩ | ⟨-, a, b, p, q, l, r, -, -, -, -, -, -, i⟩ | ⟨-, a, b, p, q, t, u, w, -, -, -, -, -, -, -, i⟩ | ⟨-, a, p, t, -, -, -, i⟩ | ⟨-, a, p, t, u, w, -, -, -, -, -, i⟩ | ⟨-, a, b, p, q, c, -, -, -, -, -, i⟩ | ⟨-, c, a, b, p, q, -, -, -, -, -, i⟩ <;> exact i.1
/-- the derivative's unknowns lie below U -/
theorem Der.ub (h7 : N ≤ 70000) : ∀ (h n m : Nat), Der s N h n m → UB s U n → UO s U m
  | 0, _, _, z, _ => z.elim
  | h + 1, n, m, z, b0 => by
    have ih := fun {a p} (z : Der s N h a p) (b : UB s U (ix (nI a))) => by
      have nb := z.nb
      have mb := Der.mb _ _ _ z
      rw [ix_nI (by omega)] at b
      have := Der.ub h7 h a p z b
      rw [← ix_nI (n := p) (by omega)] at this
      exact this
    obtain ⟨-, z⟩ := z
    have xx : ∀ {p}, p < N → ix (nI p) = p := fun hp => ix_nI (by omega)
    rcases z with ⟨-, i⟩ | ⟨-, i⟩ | ⟨-, -, i⟩ | ⟨-, v, u, x, -, -, ⟨-, i⟩ | ⟨-, p, i, j⟩⟩ | ⟨u, x, d, lf, ⟨d1, d2⟩, ⟨-, i⟩ | ⟨-, p, i, j⟩⟩ | ⟨k, a, p, ea, da, i⟩ | ⟨k, a, b, p, q, ea, eb, da, db, i⟩ | ⟨k, a, b, p, q, l, r, ea, eb, da, db, il, ir, i⟩ | ⟨k, a, b, p, q, t, u, w, ea, eb, da, db, it, iu, iw, i⟩ | ⟨k, a, p, t, ea, da, it, i⟩ | ⟨k, a, p, t, u, w, ea, da, it, iw, iu, i⟩ | ⟨k, a, b, p, q, c, ea, eb, da, db, ic, i⟩ | ⟨k, c, a, b, p, q, ec, ea, eb, da, db, i⟩
    · exact UO.nu i
    · exact UO.nu i
    · exact UO.nu i
    · exact UO.nu i
    · exact UO.o i (by decide) (by rw [xx j.1.2]; exact UO.nu j)
    · exact UO.un i d2 ((b0 1 u ((OcU_u lf).mpr rfl)).2 d d1 d2)
    · exact UO.o i (by decide) (by rw [xx j.1.2]; exact UO.un j d2 ((b0 1 u ((OcU_u lf).mpr rfl)).2 d d1 d2))
    · have ba := b0.a (Or.inl (by rw [k]; decide))
      rw [ea] at ba
      exact UO.o i (by decide) (ih da ba)
    · have kk : tA s 121 n ∈ k2T := by rcases k with k | k <;> rw [k] <;> decide
      have ba := b0.a (Or.inr (Or.inl kk))
      have bb := b0.b (Or.inl kk)
      rw [ea] at ba
      rw [eb] at bb
      exact UO.t i kk (ih da ba) (ih db bb)
    · have kk : tA s 121 n ∈ k2T := by rw [k]; decide
      have ba := b0.a (Or.inr (Or.inl kk))
      have bb := b0.b (Or.inl kk)
      rw [ea] at ba
      rw [eb] at bb
      exact UO.t i (by decide) (by rw [xx il.1.2]; exact UO.t il (by decide) (ih da ba) bb.ok) (by rw [xx ir.1.2]; exact UO.t ir (by decide) ba.ok (ih db bb))
    · have kk : tA s 121 n ∈ k2T := by rw [k]; decide
      have ba := b0.a (Or.inr (Or.inl kk))
      have bb := b0.b (Or.inl kk)
      rw [ea] at ba
      rw [eb] at bb
      have ot : UO s U (ix (nI t)) := by rw [xx it.1.2]; exact UO.t it (by decide) ba.ok bb.ok
      have ou : UO s U (ix (nI u)) := by rw [xx iu.1.2]; exact UO.t iu (by decide) ot (ih db bb)
      have ow : UO s U (ix (nI w)) := by rw [xx iw.1.2]; exact UO.t iw (by decide) (ih da ba) ou
      exact UO.t i (by decide) ow bb.ok
    · have ba := b0.a (Or.inl (by rw [k]; decide))
      rw [ea] at ba
      exact UO.t i (by decide) (by rw [xx it.1.2]; exact UO.o it (by decide) ba.ok) (ih da ba)
    · have ba := b0.a (Or.inl (by rw [k]; decide))
      rw [ea] at ba
      have ot : UO s U (ix (nI t)) := by rw [xx it.1.2]; exact UO.o it (by decide) ba.ok
      have ow : UO s U (ix (nI w)) := by rw [xx iw.1.2]; exact UO.nu iw
      have ou : UO s U (ix (nI u)) := by rw [xx iu.1.2]; exact UO.t iu (by decide) ow ot
      exact UO.t i (by decide) (ih da ba) ou
    · have kk : tA s 121 n ∈ k2T := by rcases k with k | k <;> rw [k] <;> decide
      have ba := b0.a (Or.inr (Or.inl kk))
      have bb := b0.b (Or.inl kk)
      rw [ea] at ba
      rw [eb] at bb
      have oc : UO s U (ix (nI c)) := by rw [xx ic.1.2]; exact UO.l ic ba.ok bb.ok
      exact UO.i i oc (ih da ba) (ih db bb)
    · have bc := b0.a (Or.inr (Or.inr k))
      have ba := b0.b (Or.inr k)
      have bb := b0.cd k
      rw [ec] at bc
      rw [ea] at ba
      rw [eb] at bb
      exact UO.i i bc.ok (ih da ba) (ih db bb)
end UBOUND
