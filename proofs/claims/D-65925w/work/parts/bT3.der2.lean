/-! Layer B: the derivative on the twin's side: what it is -/
set_option maxRecDepth 100000
def isN (s : TS) (N m : Nat) (c : Int32) : Prop := (1 ≤ m ∧ m < N) ∧ tA s 121 m = 0 ∧ tA s 122 m = c
def is1 (s : TS) (N : Nat) (k : Int32) (m p : Nat) : Prop := (1 ≤ m ∧ m < N) ∧ tA s 121 m = k ∧ tA s 122 m = nI p
def is2 (s : TS) (N : Nat) (k : Int32) (m p q : Nat) : Prop := (1 ≤ m ∧ m < N) ∧ tA s 121 m = k ∧ tA s 122 m = nI p ∧ tA s 123 m = nI q
def is3 (s : TS) (N m p q r : Nat) : Prop := (1 ≤ m ∧ m < N) ∧ tA s 121 m = 16 ∧ tA s 122 m = nI p ∧ tA s 123 m = nI q ∧ tA s 124 m = nI r
def isL (s : TS) (N : Nat) (c : Int32) (m p q : Nat) : Prop := (1 ≤ m ∧ m < N) ∧ tA s 121 m = 25 ∧ tA s 122 m = c ∧ tA s 123 m = nI p ∧ tA s 124 m = nI q
def dS (s : TS) : Nat → Nat → Nat
  | 0, _ => 0
  | h + 1, n => if tA s 121 n ∈ ([2, 3, 4] : List Int32) then (if ngv s n then 2 else 1) else if tA s 121 n = 7 then 1 + dS s h (ix (tA s 122 n)) else if tA s 121 n = 5 ∨ tA s 121 n = 6 then 1 + dS s h (ix (tA s 122 n)) + dS s h (ix (tA s 123 n)) else if tA s 121 n = 8 then 3 + dS s h (ix (tA s 122 n)) + PS s h (ix (tA s 123 n)) + PS s h (ix (tA s 122 n)) + dS s h (ix (tA s 123 n)) else if tA s 121 n = 9 then 4 + dS s h (ix (tA s 122 n)) + PS s h (ix (tA s 122 n)) + PS s h (ix (tA s 123 n)) + dS s h (ix (tA s 123 n)) + PS s h (ix (tA s 123 n)) else if tA s 121 n = 10 then 2 + PS s h (ix (tA s 122 n)) + dS s h (ix (tA s 122 n)) else if tA s 121 n = 11 then 4 + dS s h (ix (tA s 122 n)) + PS s h (ix (tA s 122 n)) else if tA s 121 n = 14 ∨ tA s 121 n = 15 then 2 + PS s h (ix (tA s 122 n)) + PS s h (ix (tA s 123 n)) + dS s h (ix (tA s 122 n)) + dS s h (ix (tA s 123 n)) else if tA s 121 n = 16 then 1 + PS s h (ix (tA s 122 n)) + dS s h (ix (tA s 123 n)) + dS s h (ix (tA s 124 n)) else 1
def dH (s : TS) : Nat → Nat → Nat
  | 0, _ => 0
  | h + 1, n => if tA s 121 n ∈ ([2, 3, 4] : List Int32) then (if ngv s n then 2 else 1) else if tA s 121 n = 7 then hgt (dH s h (ix (tA s 122 n))) 0 0 else if tA s 121 n = 5 ∨ tA s 121 n = 6 then hgt (dH s h (ix (tA s 122 n))) (dH s h (ix (tA s 123 n))) 0 else if tA s 121 n = 8 then hgt (hgt (dH s h (ix (tA s 122 n))) (PH s h (ix (tA s 123 n))) 0) (hgt (PH s h (ix (tA s 122 n))) (dH s h (ix (tA s 123 n))) 0) 0 else if tA s 121 n = 9 then hgt (hgt (dH s h (ix (tA s 122 n))) (hgt (hgt (PH s h (ix (tA s 122 n))) (PH s h (ix (tA s 123 n))) 0) (dH s h (ix (tA s 123 n))) 0) 0) (PH s h (ix (tA s 123 n))) 0 else if tA s 121 n = 10 then hgt (hgt (PH s h (ix (tA s 122 n))) 0 0) (dH s h (ix (tA s 122 n))) 0 else if tA s 121 n = 11 then hgt (dH s h (ix (tA s 122 n))) (hgt 1 (hgt (PH s h (ix (tA s 122 n))) 0 0) 0) 0 else if tA s 121 n = 14 ∨ tA s 121 n = 15 then hgt (hgt (PH s h (ix (tA s 122 n))) (PH s h (ix (tA s 123 n))) 0) (dH s h (ix (tA s 122 n))) (dH s h (ix (tA s 123 n))) else if tA s 121 n = 16 then hgt (PH s h (ix (tA s 122 n))) (dH s h (ix (tA s 123 n))) (dH s h (ix (tA s 124 n))) else 1
/-- m is the derivative of n -/
def Der (s : TS) (N : Nat) : Nat → Nat → Nat → Prop
  | 0, _, _ => False
  | h + 1, n, m => (1 ≤ n ∧ n < N) ∧
    ((tA s 121 n ∈ ([0, 12, 13] : List Int32) ∧ isN s N m 0) ∨
     (tA s 121 n = 1 ∧ isN s N m 65536) ∨
     ((tA s 121 n = 2 ∨ tA s 121 n = 4) ∧ (∃ v, v < 96 ∧ tA s 122 n = nI v ∧ ¬ tA s 94 v = 0) ∧ isN s N m 0) ∨
     (tA s 121 n = 4 ∧ ∃ v u x, tA s 122 n = nI v ∧ LfU s v u x ∧ ((x = 1 ∧ isN s N m 0) ∨ (x = -1 ∧ ∃ p, is1 s N 7 m p ∧ isN s N p 0))) ∨
     (∃ u x d, LfK s n u x ∧ (tA s 189 u = nI d ∧ d < 180) ∧ ((x = 1 ∧ is1 s N 30 m d) ∨ (x = -1 ∧ ∃ p, is1 s N 7 m p ∧ is1 s N 30 p d))) ∨
     (tA s 121 n = 7 ∧ ∃ a p, tA s 122 n = nI a ∧ Der s N h a p ∧ is1 s N 7 m p) ∨
     ((tA s 121 n = 5 ∨ tA s 121 n = 6) ∧ ∃ a b p q, tA s 122 n = nI a ∧ tA s 123 n = nI b ∧ Der s N h a p ∧ Der s N h b q ∧ is2 s N (tA s 121 n) m p q) ∨
     (tA s 121 n = 8 ∧ ∃ a b p q l r, tA s 122 n = nI a ∧ tA s 123 n = nI b ∧ Der s N h a p ∧ Der s N h b q ∧ is2 s N 8 l p b ∧ is2 s N 8 r a q ∧ is2 s N 5 m l r) ∨
     (tA s 121 n = 9 ∧ ∃ a b p q t u w, tA s 122 n = nI a ∧ tA s 123 n = nI b ∧ Der s N h a p ∧ Der s N h b q ∧ is2 s N 9 t a b ∧ is2 s N 8 u t q ∧ is2 s N 6 w p u ∧ is2 s N 9 m w b) ∨
     (tA s 121 n = 10 ∧ ∃ a p t, tA s 122 n = nI a ∧ Der s N h a p ∧ is1 s N 12 t a ∧ is2 s N 8 m t p) ∨
     (tA s 121 n = 11 ∧ ∃ a p t u w, tA s 122 n = nI a ∧ Der s N h a p ∧ is1 s N 11 t a ∧ isN s N w 131072 ∧ is2 s N 8 u w t ∧ is2 s N 9 m p u) ∨
     ((tA s 121 n = 14 ∨ tA s 121 n = 15) ∧ ∃ a b p q c, tA s 122 n = nI a ∧ tA s 123 n = nI b ∧ Der s N h a p ∧ Der s N h b q ∧ isL s N (if tA s 121 n = 14 then 15421 else 15933) c a b ∧ is3 s N m c p q) ∨
     (tA s 121 n = 16 ∧ ∃ c a b p q, tA s 122 n = nI c ∧ tA s 123 n = nI a ∧ tA s 124 n = nI b ∧ Der s N h a p ∧ Der s N h b q ∧ is3 s N m c p q))
section DER2
variable {s s' s1 s2 σ : TS} {S : List Nat} {N N' N0 K h h' st n m u v w x y z c c' p q r : Nat} {sx op k : Int32}
theorem isN.mv (a : isN s N m sx) (g : NdX s s' N) (hN : N ≤ N') : isN s' N' m sx := by
  obtain ⟨⟨a1, a2⟩, a3, a4⟩ := a
  exact ⟨⟨a1, by omega⟩, (g.1 121 (by decide) m a2).trans a3, (g.1 122 (by decide) m a2).trans a4⟩
theorem is1.mv (a : is1 s N k m p) (g : NdX s s' N) (hN : N ≤ N') : is1 s' N' k m p := by
  obtain ⟨⟨a1, a2⟩, a3, a4⟩ := a
  exact ⟨⟨a1, by omega⟩, (g.1 121 (by decide) m a2).trans a3, (g.1 122 (by decide) m a2).trans a4⟩
theorem is2.mv (a : is2 s N k m p q) (g : NdX s s' N) (hN : N ≤ N') : is2 s' N' k m p q := by
  obtain ⟨⟨a1, a2⟩, a3, a4, a5⟩ := a
  exact ⟨⟨a1, by omega⟩, (g.1 121 (by decide) m a2).trans a3, (g.1 122 (by decide) m a2).trans a4, (g.1 123 (by decide) m a2).trans a5⟩
theorem is3.mv (a : is3 s N m p q r) (g : NdX s s' N) (hN : N ≤ N') : is3 s' N' m p q r := by
  obtain ⟨⟨a1, a2⟩, a3, a4, a5, a6⟩ := a
  exact ⟨⟨a1, by omega⟩, (g.1 121 (by decide) m a2).trans a3, (g.1 122 (by decide) m a2).trans a4, (g.1 123 (by decide) m a2).trans a5, (g.1 124 (by decide) m a2).trans a6⟩
theorem isL.mv (a : isL s N sx m p q) (g : NdX s s' N) (hN : N ≤ N') : isL s' N' sx m p q := by
  obtain ⟨⟨a1, a2⟩, a3, a4, a5, a6⟩ := a
  exact ⟨⟨a1, by omega⟩, (g.1 121 (by decide) m a2).trans a3, (g.1 122 (by decide) m a2).trans a4, (g.1 123 (by decide) m a2).trans a5, (g.1 124 (by decide) m a2).trans a6⟩
theorem Der.mv (g : NdX s s' N) (hN : N ≤ N') : ∀ (h n m : Nat), Der s N h n m → Der s' N' h n m
  | 0, _, _, z => z.elim
  | h + 1, n, m, ⟨⟨n1, n2⟩, z⟩ => by
    have ih := fun a p z => Der.mv g hN h a p z
    refine ⟨⟨n1, by omega⟩, ?_⟩
    rw [g.1 121 (by decide) n n2, g.1 122 (by decide) n n2, g.1 123 (by decide) n n2, g.1 124 (by decide) n n2]
    rcases z with ⟨a, b⟩ | ⟨a, b⟩ | ⟨a, ⟨v, v1, v2, v3⟩, b⟩ | ⟨a, v, u, x, b, c, d⟩ | ⟨u, x, d, a, ⟨b1, b2⟩, c⟩ | ⟨a, x, p, b, c, d⟩ | ⟨a, x, y, p, q, b, c, d, e, f⟩ | ⟨a, x, y, p, q, l, r, b, c, d, e, f, f2, f3⟩ | ⟨a, x, y, p, q, t, u, w, b, c, d, e, f, f2, f3, f4⟩ | ⟨a, x, p, t, b, c, d, e⟩ | ⟨a, x, p, t, u, w, b, c, d, e, f, f2⟩ | ⟨a, x, y, p, q, t, b, c, d, e, f, f2⟩ | ⟨a, t, x, y, p, q, b, b2, c, d, e, f⟩
    · exact Or.inl ⟨a, b.mv g hN⟩
    · exact Or.inr (Or.inl ⟨a, b.mv g hN⟩)
    · exact Or.inr (Or.inr (Or.inl ⟨a, ⟨v, v1, v2, by rw [g.2.1 94 (by decide)]; exact v3⟩, b.mv g hN⟩))
    · exact Or.inr (Or.inr (Or.inr (Or.inl ⟨a, v, u, x, b, c.mv g, d.imp (fun e => ⟨e.1, e.2.mv g hN⟩) (fun ⟨e, p, e1, e2⟩ => ⟨e, p, e1.mv g hN, e2.mv g hN⟩)⟩)))
    · exact Or.inr (Or.inr (Or.inr (Or.inr (Or.inl ⟨u, x, d, a.mv g n2, ⟨(g.2.2 u (by rw [b1]; exact nI_m1 (by omega))).trans b1, b2⟩, c.imp (fun e => ⟨e.1, e.2.mv g hN⟩) (fun ⟨e, p, e1, e2⟩ => ⟨e, p, e1.mv g hN, e2.mv g hN⟩)⟩))))
    · exact Or.inr (Or.inr (Or.inr (Or.inr (Or.inr (Or.inl ⟨a, x, p, b, ih _ _ c, d.mv g hN⟩)))))
    · exact Or.inr (Or.inr (Or.inr (Or.inr (Or.inr (Or.inr (Or.inl ⟨a, x, y, p, q, b, c, ih _ _ d, ih _ _ e, f.mv g hN⟩))))))
    · exact Or.inr (Or.inr (Or.inr (Or.inr (Or.inr (Or.inr (Or.inr (Or.inl ⟨a, x, y, p, q, l, r, b, c, ih _ _ d, ih _ _ e, f.mv g hN, f2.mv g hN, f3.mv g hN⟩)))))))
    · exact Or.inr (Or.inr (Or.inr (Or.inr (Or.inr (Or.inr (Or.inr (Or.inr (Or.inl ⟨a, x, y, p, q, t, u, w, b, c, ih _ _ d, ih _ _ e, f.mv g hN, f2.mv g hN, f3.mv g hN, f4.mv g hN⟩))))))))
    · exact Or.inr (Or.inr (Or.inr (Or.inr (Or.inr (Or.inr (Or.inr (Or.inr (Or.inr (Or.inl ⟨a, x, p, t, b, ih _ _ c, d.mv g hN, e.mv g hN⟩)))))))))
    · exact Or.inr (Or.inr (Or.inr (Or.inr (Or.inr (Or.inr (Or.inr (Or.inr (Or.inr (Or.inr (Or.inl ⟨a, x, p, t, u, w, b, ih _ _ c, d.mv g hN, e.mv g hN, f.mv g hN, f2.mv g hN⟩))))))))))
    · exact Or.inr (Or.inr (Or.inr (Or.inr (Or.inr (Or.inr (Or.inr (Or.inr (Or.inr (Or.inr (Or.inr (Or.inl ⟨a, x, y, p, q, t, b, c, ih _ _ d, ih _ _ e, f.mv g hN, f2.mv g hN⟩)))))))))))
    · exact Or.inr (Or.inr (Or.inr (Or.inr (Or.inr (Or.inr (Or.inr (Or.inr (Or.inr (Or.inr (Or.inr (Or.inr ⟨a, t, x, y, p, q, b, b2, c, ih _ _ d, ih _ _ e, f.mv g hN⟩)))))))))))
/-- a tree with its size and height -/
def TwZ (s : TS) (N F st m z t : Nat) : Prop := TwT s N F st m ∧ PS s F m = z ∧ PH s F m = t
theorem TwZ.mv (a : TwZ s N h st n z y) (g : NdX s s' N) (h7 : N ≤ 70000) (hN : N ≤ N') (hh : h ≤ h') : TwZ s' N' h' st n z y := ⟨TwT.mv g hN h h' st n hh a.1, (TwT.ps g h7 h h' st n hh a.1).1.trans a.2.1, (TwT.ps g h7 h h' st n hh a.1).2.trans a.2.2⟩
theorem TwZ.nu (a : isN s N m sx) : TwZ s N (h + 1) 0 m 1 1 := by
  have q : tA s 121 m ∈ ([0, 1, 24, 30] : List Int32) := by rw [a.2.1]; decide
  exact ⟨⟨a.1, Or.inl ⟨rfl, Or.inl a.2.1⟩⟩, (PS_0 q).1, (PS_0 q).2⟩
theorem TwZ.uk (a : is1 s N 30 m u) (hu : u < 180) : TwZ s N (h + 1) 0 m 1 1 := by
  have q : tA s 121 m ∈ ([0, 1, 24, 30] : List Int32) := by rw [a.2.1]; decide
  exact ⟨⟨a.1, Or.inr (Or.inr (Or.inl ⟨rfl, u, 1, Or.inr (Or.inr ⟨a.2.1, a.2.2, hu, rfl⟩)⟩))⟩, (PS_0 q).1, (PS_0 q).2⟩
theorem TwZ.o (a : is1 s N k m p) (hk : (st, k) ∈ oneT) (h7 : N ≤ 70000) (g : TwZ s N h st p z y) : TwZ s N (h + 1) st m (1 + z) (hgt y 0 0) := by
  obtain ⟨a0, a1, a2⟩ := a
  have q : tA s 121 m ∈ k1T := by rw [a1]; exact one_k1 hk
  have nb := g.1.nb
  have xp : ix (nI p) = p := ix_nI (by omega)
  refine ⟨⟨a0, Or.inr (Or.inr (Or.inr (Or.inr (Or.inl ⟨by rw [a1]; exact hk, p, a2, g.1⟩))))⟩, ?_, ?_⟩
  · rw [(PS_1 q).1, a2, xp, g.2.1]
  · rw [(PS_1 q).2, a2, xp, g.2.2]
theorem TwZ.t (a : is2 s N k m p q) (hk : (st, k) ∈ twoT) (h7 : N ≤ 70000) (g : TwZ s N h st p z y) (g' : TwZ s N h st q w x) : TwZ s N (h + 1) st m (1 + z + w) (hgt y x 0) := by
  obtain ⟨a0, a1, a2, a3⟩ := a
  have q2 : tA s 121 m ∈ k2T := by rw [a1]; exact two_k2 hk
  have nb := g.1.nb
  have nb' := g'.1.nb
  have xp : ix (nI p) = p := ix_nI (by omega)
  have xq : ix (nI q) = q := ix_nI (by omega)
  refine ⟨⟨a0, Or.inr (Or.inr (Or.inr (Or.inr (Or.inr (Or.inl ⟨by rw [a1]; exact hk, ⟨p, a2, g.1⟩, q, a3, g'.1⟩)))))⟩, ?_, ?_⟩
  · rw [(PS_2 q2).1, a2, xp, g.2.1, a3, xq, g'.2.1]
  · rw [(PS_2 q2).2, a2, xp, g.2.2, a3, xq, g'.2.2]
theorem TwZ.i {r1 t1 r2 t2 r3 t3 : Nat} (a : is3 s N m p q r) (h7 : N ≤ 70000) (g1 : TwZ s N h 1 p r1 t1) (g2 : TwZ s N h 0 q r2 t2) (g3 : TwZ s N h 0 r r3 t3) : TwZ s N (h + 1) 0 m (1 + r1 + r2 + r3) (hgt t1 t2 t3) := by
  obtain ⟨a0, a1, a2, a3, a4⟩ := a
  have nb1 := g1.1.nb
  have nb2 := g2.1.nb
  have nb3 := g3.1.nb
  have xp : ix (nI p) = p := ix_nI (by omega)
  have xq : ix (nI q) = q := ix_nI (by omega)
  have xr : ix (nI r) = r := ix_nI (by omega)
  refine ⟨⟨a0, Or.inr (Or.inr (Or.inr (Or.inr (Or.inr (Or.inr (Or.inl ⟨rfl, a1, ⟨p, a2, g1.1⟩, ⟨q, a3, g2.1⟩, r, a4, g3.1⟩))))))⟩, ?_, ?_⟩
  · rw [(PS_3 a1).1, a2, xp, g1.2.1, a3, xq, g2.2.1, a4, xr, g3.2.1]
  · rw [(PS_3 a1).2, a2, xp, g1.2.2, a3, xq, g2.2.2, a4, xr, g3.2.2]
theorem TwZ.l {r2 t2 r3 t3 : Nat} (a : isL s N sx m q r) (h7 : N ≤ 70000) (g2 : TwZ s N h 0 q r2 t2) (g3 : TwZ s N h 0 r r3 t3) : TwZ s N (h + 1) 1 m (1 + r2 + r3) (hgt t2 t3 0) := by
  obtain ⟨a0, a1, a2, a3, a4⟩ := a
  have nb2 := g2.1.nb
  have nb3 := g3.1.nb
  have xq : ix (nI q) = q := ix_nI (by omega)
  have xr : ix (nI r) = r := ix_nI (by omega)
  refine ⟨⟨a0, Or.inr (Or.inr (Or.inr (Or.inr (Or.inr (Or.inr (Or.inr (Or.inl ⟨rfl, Or.inr a1, ⟨q, a3, g2.1⟩, r, a4, g3.1⟩)))))))⟩, ?_, ?_⟩
  · rw [(PS_4 (Or.inr a1)).1, a3, xq, g2.2.1, a4, xr, g3.2.1]
  · rw [(PS_4 (Or.inr a1)).2, a3, xq, g2.2.2, a4, xr, g3.2.2]
theorem dS_v (e : tA s 121 n ∈ ([2, 3, 4] : List Int32)) : dS s (h + 1) n = (if ngv s n then 2 else 1) ∧ dH s (h + 1) n = if ngv s n then 2 else 1 := by
  unfold dS dH; rw [ifT e, ifT e]; exact ⟨rfl, rfl⟩
theorem dS_0 (e : tA s 121 n ∈ ([0, 1, 12, 13, 30] : List Int32)) : dS s (h + 1) n = 1 ∧ dH s (h + 1) n = 1 := by
  simp only [List.mem_cons, List.not_mem_nil, or_false] at e
  rw [dS, dH]
  rcases e with e | e | e | e | e <;> rw [e] <;> refine ⟨?_, ?_⟩ <;> simp +decide only [↓reduceIte]
theorem dS_7 (e : tA s 121 n = 7) (e1 : tA s 122 n = nI x) (hx : x < 70000) : dS s (h + 1) n = 1 + dS s h x ∧ dH s (h + 1) n = hgt (dH s h x) 0 0 := by
  rw [dS, dH, e]
  simp +decide only [↓reduceIte]
  rw [e1, ix_nI (show x < 2147483648 by omega)]; exact ⟨rfl, rfl⟩
theorem dS_5 (e : tA s 121 n = 5 ∨ tA s 121 n = 6) (e1 : tA s 122 n = nI x) (e2 : tA s 123 n = nI y) (hx : x < 70000 ∧ y < 70000) : dS s (h + 1) n = 1 + dS s h x + dS s h y ∧ dH s (h + 1) n = hgt (dH s h x) (dH s h y) 0 := by
  rw [dS, dH]
  rcases e with e | e <;> rw [e] <;> simp +decide only [↓reduceIte] <;> rw [e1, e2, ix_nI (show x < 2147483648 by omega), ix_nI (show y < 2147483648 by omega)] <;> exact ⟨rfl, rfl⟩
theorem dS_8 (e : tA s 121 n = 8) (e1 : tA s 122 n = nI x) (e2 : tA s 123 n = nI y) (hx : x < 70000 ∧ y < 70000) : dS s (h + 1) n = 3 + dS s h x + PS s h y + PS s h x + dS s h y ∧ dH s (h + 1) n = hgt (hgt (dH s h x) (PH s h y) 0) (hgt (PH s h x) (dH s h y) 0) 0 := by
  rw [dS, dH, e]
  simp +decide only [↓reduceIte]
  rw [e1, e2, ix_nI (show x < 2147483648 by omega), ix_nI (show y < 2147483648 by omega)]; exact ⟨rfl, rfl⟩
theorem dS_9 (e : tA s 121 n = 9) (e1 : tA s 122 n = nI x) (e2 : tA s 123 n = nI y) (hx : x < 70000 ∧ y < 70000) : dS s (h + 1) n = 4 + dS s h x + PS s h x + PS s h y + dS s h y + PS s h y ∧ dH s (h + 1) n = hgt (hgt (dH s h x) (hgt (hgt (PH s h x) (PH s h y) 0) (dH s h y) 0) 0) (PH s h y) 0 := by
  rw [dS, dH, e]
  simp +decide only [↓reduceIte]
  rw [e1, e2, ix_nI (show x < 2147483648 by omega), ix_nI (show y < 2147483648 by omega)]; exact ⟨rfl, rfl⟩
theorem dS_10 (e : tA s 121 n = 10) (e1 : tA s 122 n = nI x) (hx : x < 70000) : dS s (h + 1) n = 2 + PS s h x + dS s h x ∧ dH s (h + 1) n = hgt (hgt (PH s h x) 0 0) (dH s h x) 0 := by
  rw [dS, dH, e]
  simp +decide only [↓reduceIte]
  rw [e1, ix_nI (show x < 2147483648 by omega)]; exact ⟨rfl, rfl⟩
theorem dS_11 (e : tA s 121 n = 11) (e1 : tA s 122 n = nI x) (hx : x < 70000) : dS s (h + 1) n = 4 + dS s h x + PS s h x ∧ dH s (h + 1) n = hgt (dH s h x) (hgt 1 (hgt (PH s h x) 0 0) 0) 0 := by
  rw [dS, dH, e]
  simp +decide only [↓reduceIte]
  rw [e1, ix_nI (show x < 2147483648 by omega)]; exact ⟨rfl, rfl⟩
theorem dS_14 (e : tA s 121 n = 14 ∨ tA s 121 n = 15) (e1 : tA s 122 n = nI x) (e2 : tA s 123 n = nI y) (hx : x < 70000 ∧ y < 70000) : dS s (h + 1) n = 2 + PS s h x + PS s h y + dS s h x + dS s h y ∧ dH s (h + 1) n = hgt (hgt (PH s h x) (PH s h y) 0) (dH s h x) (dH s h y) := by
  rw [dS, dH]
  rcases e with e | e <;> rw [e] <;> simp +decide only [↓reduceIte] <;> rw [e1, e2, ix_nI (show x < 2147483648 by omega), ix_nI (show y < 2147483648 by omega)] <;> exact ⟨rfl, rfl⟩
theorem dS_16 (e : tA s 121 n = 16) (e1 : tA s 122 n = nI z) (e2 : tA s 123 n = nI x) (e3 : tA s 124 n = nI y) (hx : x < 70000 ∧ y < 70000 ∧ z < 70000) : dS s (h + 1) n = 1 + PS s h z + dS s h x + dS s h y ∧ dH s (h + 1) n = hgt (PH s h z) (dH s h x) (dH s h y) := by
  rw [dS, dH, e]
  simp +decide only [↓reduceIte]
  rw [e1, e2, e3, ix_nI (show z < 2147483648 by omega), ix_nI (show x < 2147483648 by omega), ix_nI (show y < 2147483648 by omega)]; exact ⟨rfl, rfl⟩
end DER2
