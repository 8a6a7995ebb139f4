/-! Layer B: solved trees: the component differentiates -/
set_option maxRecDepth 100000
def DnK (s : TS) (M : CM) (h n : Nat) : Prop := ∀ u, OcU s h n u → ∃ d, (tA s 189 u = nI d ∧ d < 180) ∧ mA M 121 u = nI d
/-- what it gives: the derivative, whatever the twin has made it of -/
def QD (s : TS) (V N h n : Nat) (D : FQ) (M : CM) (K a : Nat) : Prop := (∃ k, k < K ∧ a = (pl D 134).getD k 0) ∧ mI M 3404 a = nI (dH s h n) ∧ (1 ≤ dH s h n ∧ dH s h n ≤ 200) ∧ ∀ s' N' m, NdX s s' N → N ≤ N' → N' ≤ 70000 → Der s' N' h n m → SxR D M s' 134 V K N' (3 * h + 2) 0 a m
section DIFF1
variable {s s' s1 s2 σ : TS} {D D' D2 : FQ} {M M' M1 M2 : CM} {l V K K0 K' N N' h h' f st a n m p q r k c1 c2 c3 t1 t2 t3 j u u' v w x0 X H z z1 z2 z3 d y : Nat} {op vl x x' kx mo he cc : Int32} {E : Prop} {cf : Nat → CM → Option ((Nat ⊕ Nat) × CM)}
theorem OcU.ca {x : Nat} (z : OcU s h x u) (e : tA s 121 n ∈ k1T ∨ tA s 121 n ∈ k2T) (e1 : tA s 122 n = nI x) (hx : x < 70000) : OcU s (h + 1) n u := by
  unfold OcU
  rw [e1, ix_nI (by omega)]
  rcases e with e | e
  · exact Or.inr (Or.inl ⟨e, z⟩)
  · exact Or.inr (Or.inr (Or.inl ⟨e, Or.inl z⟩))
theorem OcU.cb {x : Nat} (z : OcU s h x u) (e : tA s 121 n ∈ k2T) (e1 : tA s 123 n = nI x) (hx : x < 70000) : OcU s (h + 1) n u := by
  unfold OcU
  rw [e1, ix_nI (n := x) (by omega)]
  exact Or.inr (Or.inr (Or.inl ⟨e, Or.inr z⟩))
theorem OcU.cd {x : Nat} (z : OcU s h x u) (e : tA s 121 n = 16) (e1 : tA s 122 n = nI x ∨ tA s 123 n = nI x ∨ tA s 124 n = nI x) (hx : x < 70000) : OcU s (h + 1) n u := by
  unfold OcU
  refine Or.inr (Or.inr (Or.inr (Or.inl ⟨e, ?_⟩)))
  rcases e1 with e1 | e1 | e1 <;> rw [e1, ix_nI (n := x) (by omega)]
  · exact Or.inl z
  · exact Or.inr (Or.inl z)
  · exact Or.inr (Or.inr z)
theorem LfO.sp (z : LfO 134 V s n op vl x) : (op = 17 ∧ ∃ u, LfK s n u x ∧ vl = nI u) ∨ (op = 18 ∧ tA s 121 n = 4 ∧ ∃ v u, tA s 122 n = nI v ∧ LfU s v u x) := by
  rcases z with ⟨e, v, u, ⟨b, -⟩, c, rfl, d⟩ | ⟨e, v, u, ⟨b, -⟩, c, ⟨-, rfl, d, d1, d2, d3⟩ | ⟨d, -⟩⟩ | ⟨e, v, u, ⟨b, -⟩, c, rfl, d⟩ | ⟨e, u, b, c, d, rfl, g⟩
  · exact Or.inl ⟨rfl, u, Or.inl ⟨e, v, b, c⟩, d⟩
  · exact Or.inl ⟨rfl, d, Or.inr (Or.inl ⟨e, v, u, b, c, d2, d1⟩), d3⟩
  · exact absurd rfl d
  · exact Or.inr ⟨rfl, e, v, u, b, c⟩
  · exact Or.inl ⟨rfl, u, Or.inr (Or.inr ⟨e, c, b, d⟩), g⟩
theorem LfO.dh (z : LfO 134 V s n op vl x) : dS s (h + 1) n = (if x = 1 then 1 else 2) ∧ dH s (h + 1) n = if x = 1 then 1 else 2 := by
  have vv : ∀ v u, tA s 121 n ∈ ([2, 3, 4] : List Int32) → tA s 122 n = nI v → LfU s v u x → dS s (h + 1) n = (if x = 1 then 1 else 2) ∧ dH s (h + 1) n = if x = 1 then 1 else 2 := fun v u e ev lu => by
    obtain ⟨⟨l1, l2⟩, -, -, l3, l4⟩ := lu
    have en : ngv s n ↔ ¬ 0 ≤ x := by unfold ngv; rw [ev, ix_nI (by omega), l1, l3]; exact ⟨fun y => y.2, fun y => ⟨rfl, y⟩⟩
    rw [(dS_v e).1, (dS_v e).2]
    rcases sg_pos l4 with ⟨p1, p2⟩ | ⟨p1, p2⟩
    · rw [ifF (fun y => en.mp y p2), ifT p1]; exact ⟨rfl, rfl⟩
    · rw [ifT (en.mpr p2), ifF (by rw [p1]; decide)]; exact ⟨rfl, rfl⟩
  rcases z with ⟨e, v, u, ⟨b, -⟩, c, -⟩ | ⟨e, v, u, ⟨b, -⟩, c, -⟩ | ⟨e, v, u, ⟨b, -⟩, c, -⟩ | ⟨e, u, b, c, rfl, -⟩
  · exact vv v u (by rw [e]; decide) b c
  · exact vv v u (by rw [e]; decide) b c
  · exact vv v u (by rw [e]; decide) b c
  · rw [(dS_0 (by rw [e]; decide)).1, (dS_0 (by rw [e]; decide)).2]; exact ⟨rfl, rfl⟩
theorem QD.sn (q : QD s V N h n D M K a) (g : SnK D M D' M' 134 K) (hK : K ≤ K') : QD s V N h n D' M' K' a := by
  obtain ⟨⟨k, k1, k2⟩, a1, a2, a3⟩ := q
  obtain ⟨e1, e2, e3⟩ := g k k1
  rw [← k2] at e1 e2
  exact ⟨⟨k, by omega, e1.symm⟩, by rw [e2]; exact a1, a2, fun s' N' m x1 x2 x3 x4 => SxR.mv g NdX.rf hK (Nat.le_refl _) x3 _ _ _ _ _ (Nat.le_refl _) (a3 s' N' m x1 x2 x3 x4)⟩
theorem QD.ch (q : QD s V N h n D M K a) : ChO D M 134 K a (dH s h n) := by
  obtain ⟨⟨k, k1, k2⟩, a1, a2, a3⟩ := q
  exact Or.inr ⟨k, k1, k2, a1, by omega⟩
theorem SxR.hc (z : SxR D M s 134 V K N h st a n) (hh : h ≤ 900) : ChO D M 134 K a (PH s h n) ∧ mI M 3404 a = nI (PH s h n) ∧ PH s h n ≤ 1000 := by
  obtain ⟨t, t1, t2, t3, t4, t5⟩ := z.ch hh
  rw [← t5 rfl]
  exact ⟨t1, t2, by omega⟩
theorem NwS.ch2 (nw : NwS 134 D M k op vl mo he c1 c2 c3 t1) (hk : k < K) (ht : t1 ≤ 1000) : ChO D M 134 K ((pl D 134).getD k 0) t1 := Or.inr ⟨k, hk, rfl, nw.2.2.2.2.1, ht⟩
theorem is1.uq (i : tA s' 122 n = nI y) (e : tA s' 122 n = nI z) (hy : y < 100000) (hz : z < 100000) : y = z := nI_inj (i.symm.trans e) hy hz
theorem Der.nb (z : Der s N h n m) : 1 ≤ n ∧ n < N := by
  cases h with
  | zero => exact z.elim
  | succ h => exact z.1
end DIFF1
