/-! Layer B: solved trees: nodes on both sides; a tree is copied -/
set_option maxRecDepth 100000
section BUILD
variable {s s' s1 s2 σ : TS} {D D' D2 : FQ} {M M' M1 M2 : CM} {l V K K0 K' N N' h h' f st a n m p q r k c1 c2 c3 t1 t2 t3 j u v w x0 X H z z1 z2 z3 : Nat} {op vl x kx mo he cc : Int32}
theorem SxR.b1 (hK : K < K') (hk : (st, op, kx) ∈ oneX) (nw : NwS l D M K op vl mo he c1 0 0 (hgt t1 0 0)) (i : is1 s N kx m p) (c : SxR D M s l V K' N h st c1 p) (hh : h ≤ 900) (h1 : mI M 3404 c1 = nI t1 ∧ t1 ≤ 1000) (h7 : N ≤ 70000) : SxR D M s l V K' N (h + 1) st ((pl D l).getD K 0) m := by
  obtain ⟨n1, n2, n3, n4, n5, n6, n7, n8⟩ := nw
  obtain ⟨a1, a2, a3⟩ := c.hI hh h1.1 (by omega)
  refine ⟨⟨⟨K, hK, rfl⟩, i.1⟩, ⟨_, n5, ⟨by rw [hgt_eq]; omega, by rw [hgt_eq]; omega⟩, fun e => ?_⟩, ?_⟩
  · rw [(PS_1 (by rw [i.2.1]; exact one_k1 (oneX_T hk))).2, i.2.2, ix_nI (by have := c.nb.2; omega), a3 e]
  · exact Or.inr (Or.inr (Or.inl ⟨by rw [n1, i.2.1]; exact hk, ⟨p, i.2.2, by rw [n6]; exact c⟩, n7, n8⟩))
theorem SxR.b2 (hK : K < K') (hk : (st, op, kx) ∈ twoX) (nw : NwS l D M K op vl mo he c1 c2 0 (hgt t1 t2 0)) (i : is2 s N kx m p q) (c : SxR D M s l V K' N h st c1 p) (c' : SxR D M s l V K' N h st c2 q) (hh : h ≤ 900) (h1 : mI M 3404 c1 = nI t1 ∧ t1 ≤ 1000) (h2 : mI M 3404 c2 = nI t2 ∧ t2 ≤ 1000) (h7 : N ≤ 70000) : SxR D M s l V K' N (h + 1) st ((pl D l).getD K 0) m := by
  obtain ⟨n1, n2, n3, n4, n5, n6, n7, n8⟩ := nw
  obtain ⟨a1, a2, a3⟩ := c.hI hh h1.1 (by omega)
  obtain ⟨b1, b2, b3⟩ := c'.hI hh h2.1 (by omega)
  refine ⟨⟨⟨K, hK, rfl⟩, i.1⟩, ⟨_, n5, ⟨by rw [hgt_eq]; omega, by rw [hgt_eq]; omega⟩, fun e => ?_⟩, ?_⟩
  · rw [(PS_2 (by rw [i.2.1]; exact two_k2 (twoX_T hk))).2, i.2.2.1, i.2.2.2, ix_nI (by have := c.nb.2; omega), ix_nI (by have := c'.nb.2; omega), a3 e, b3 e]
  · exact Or.inr (Or.inr (Or.inr (Or.inl ⟨by rw [n1, i.2.1]; exact hk, ⟨p, i.2.2.1, by rw [n6]; exact c⟩, ⟨q, i.2.2.2, by rw [n7]; exact c'⟩, n8⟩)))
theorem SxR.b3 (hK : K < K') (nw : NwS l D M K 14 vl mo he c1 c2 c3 (hgt t1 t2 t3)) (i : is3 s N m p q r) (c : SxR D M s l V K' N h 1 c1 p) (c' : SxR D M s l V K' N h 0 c2 q) (cd : SxR D M s l V K' N h 0 c3 r) (hh : h ≤ 900) (h1 : mI M 3404 c1 = nI t1 ∧ t1 ≤ 1000) (h2 : mI M 3404 c2 = nI t2 ∧ t2 ≤ 1000) (h3 : mI M 3404 c3 = nI t3 ∧ t3 ≤ 1000) (h7 : N ≤ 70000) : SxR D M s l V K' N (h + 1) 0 ((pl D l).getD K 0) m := by
  obtain ⟨n1, n2, n3, n4, n5, n6, n7, n8⟩ := nw
  obtain ⟨a1, a2, a3⟩ := c.hI hh h1.1 (by omega)
  obtain ⟨b1, b2, b3⟩ := c'.hI hh h2.1 (by omega)
  obtain ⟨d1, d2, d3⟩ := cd.hI hh h3.1 (by omega)
  refine ⟨⟨⟨K, hK, rfl⟩, i.1⟩, ⟨_, n5, ⟨by rw [hgt_eq]; omega, by rw [hgt_eq]; omega⟩, fun e => ?_⟩, ?_⟩
  · rw [(PS_3 i.2.1).2, i.2.2.1, i.2.2.2.1, i.2.2.2.2, ix_nI (by have := c.nb.2; omega), ix_nI (by have := c'.nb.2; omega), ix_nI (by have := cd.nb.2; omega), a3 e, b3 e, d3 e]
  · exact Or.inr (Or.inr (Or.inr (Or.inr (Or.inl ⟨rfl, n1, i.2.1, ⟨p, i.2.2.1, by rw [n6]; exact c⟩, ⟨q, i.2.2.2.1, by rw [n7]; exact c'⟩, r, i.2.2.2.2, by rw [n8]; exact cd⟩))))
theorem SxR.b4 (hK : K < K') (nw : NwS l D M K op vl mo he c1 c2 0 (hgt t1 t2 0)) (i0 : 1 ≤ m ∧ m < N) (i1 : (tA s 121 m = 20 ∧ (op, tA s 122 m) ∈ rlF ∧ ∃ r, r < 24 ∧ he = nI r ∧ tA s 162 m = nI r) ∨ (tA s 121 m = 25 ∧ (op, tA s 122 m) ∈ ([(22, 15421), (23, 15933)] : List (Int32 × Int32)) ∧ he = -1)) (i3 : tA s 123 m = nI p) (i4 : tA s 124 m = nI q) (c : SxR D M s l V K' N h 0 c1 p) (c' : SxR D M s l V K' N h 0 c2 q) (hh : h ≤ 900) (h1 : mI M 3404 c1 = nI t1 ∧ t1 ≤ 1000) (h2 : mI M 3404 c2 = nI t2 ∧ t2 ≤ 1000) (h7 : N ≤ 70000) : SxR D M s l V K' N (h + 1) 1 ((pl D l).getD K 0) m := by
  obtain ⟨n1, n2, n3, n4, n5, n6, n7, n8⟩ := nw
  obtain ⟨a1, a2, a3⟩ := c.hI hh h1.1 (by omega)
  obtain ⟨b1, b2, b3⟩ := c'.hI hh h2.1 (by omega)
  refine ⟨⟨⟨K, hK, rfl⟩, i0⟩, ⟨_, n5, ⟨by rw [hgt_eq]; omega, by rw [hgt_eq]; omega⟩, fun e => ?_⟩, ?_⟩
  · rw [(PS_4 (i1.imp (fun z => z.1) (fun z => z.1))).2, i3, i4, ix_nI (by have := c.nb.2; omega), ix_nI (by have := c'.nb.2; omega), a3 e, b3 e]
  · exact Or.inr (Or.inr (Or.inr (Or.inr (Or.inr (Or.inl ⟨rfl, by rw [n1, n4]; exact i1, ⟨p, i3, by rw [n6]; exact c⟩, ⟨q, i4, by rw [n7]; exact c'⟩, n8⟩)))))
/-- leaves -/
theorem SxR.b0 (hK : K < K') (nw : NwS l D M K op vl mo he 0 0 0 1) (i0 : 1 ≤ m ∧ m < N) (i1 : (op = 0 ∧ tA s 121 m = 0 ∧ vl = tA s 122 m ∧ 0 ≤ tA s 122 m) ∨ (op = 2 ∧ tA s 121 m = 1) ∨ ((op, tA s 121 m) ∈ plX ∧ ∃ v, (v < V ∧ v < 96) ∧ vl = nI v ∧ tA s 122 m = nI v ∧ ¬ tA s 94 v = 0 ∧ (tA s 121 m = 4 → tA s 94 v = 2))) : SxR D M s l V K' N (h + 1) 0 ((pl D l).getD K 0) m := by
  obtain ⟨n1, n2, n3, n4, n5, n6, n7, n8⟩ := nw
  refine ⟨⟨⟨K, hK, rfl⟩, i0⟩, ⟨1, n5, ⟨by omega, by omega⟩, fun e => ?_⟩, ?_⟩
  · rcases i1 with ⟨-, e, -⟩ | ⟨-, e⟩ | ⟨e, v, ⟨-, v1⟩, -, v2, v3, -⟩
    · rw [(PS_0 (by rw [e]; decide)).2]
    · rw [(PS_0 (by rw [e]; decide)).2]
    · have e' : tA s 121 m ∈ ([2, 3, 4] : List Int32) := by
        simp only [List.mem_cons, Prod.mk.injEq, List.not_mem_nil, or_false] at e
        rcases e with ⟨-, e⟩ | ⟨-, e⟩ <;> rw [e] <;> decide
      have ng : ¬ ngv s m := fun y => by unfold ngv at y; rw [v2, ix_nI (by omega)] at y; exact v3 y.1
      rw [(PS_v e').2, ifF ng]
  · unfold lf3
    rw [n1, n2, n6, n7, n8]
    exact Or.inl ⟨rfl, ⟨rfl, rfl, rfl⟩, i1⟩
theorem SxR.bs (hK : K < K') (nw : NwS l D M K 29 vl mo he 0 0 0 1) (i0 : 1 ≤ m ∧ m < N) (e : tA s 121 m = 24) (i1 : ∃ r, r < 24 ∧ he = nI r ∧ tA s 162 m = nI r) (i2 : ∃ x y, vl = nI x ∧ mo = nI y ∧ tA s 122 m = nI x ∧ tA s 123 m = nI y ∧ x ≤ 2147418112 ∧ 1 ≤ y ∧ y ≤ 2147418112) : SxR D M s l V K' N (h + 1) 1 ((pl D l).getD K 0) m := by
  obtain ⟨n1, n2, n3, n4, n5, n6, n7, n8⟩ := nw
  refine ⟨⟨⟨K, hK, rfl⟩, i0⟩, ⟨1, n5, ⟨by omega, by omega⟩, fun _ => ?_⟩, ?_⟩
  · rw [(PS_0 (by rw [e]; decide)).2]
  · unfold lf3
    rw [n1, n2, n3, n4, n6, n7, n8]
    exact Or.inr (Or.inr (Or.inr (Or.inr (Or.inr (Or.inr ⟨rfl, rfl, e, ⟨rfl, rfl, rfl⟩, i1, i2⟩)))))
theorem LfO.ph (z : LfO l V s n op vl x) : PH s (h + 1) n = if x = 1 then 1 else 2 := by
  have vv : ∀ v u, tA s 121 n ∈ ([2, 3, 4] : List Int32) → tA s 122 n = nI v → LfU s v u x → PH s (h + 1) n = if x = 1 then 1 else 2 := fun v u e ev lu => by
    obtain ⟨⟨l1, l2⟩, -, -, l3, l4⟩ := lu
    have en : ngv s n ↔ ¬ 0 ≤ x := by unfold ngv; rw [ev, ix_nI (by omega), l1, l3]; exact ⟨fun y => y.2, fun y => ⟨rfl, y⟩⟩
    rw [(PS_v e).2]
    rcases sg_pos l4 with ⟨p1, p2⟩ | ⟨p1, p2⟩
    · rw [ifF (fun y => en.mp y p2), ifT p1]
    · rw [ifT (en.mpr p2), ifF (by rw [p1]; decide)]
  rcases z with ⟨e, v, u, ⟨b, -⟩, c, -⟩ | ⟨e, v, u, ⟨b, -⟩, c, -⟩ | ⟨e, v, u, ⟨b, -⟩, c, -⟩ | ⟨e, u, b, c, rfl, -⟩
  · exact vv v u (by rw [e]; decide) b c
  · exact vv v u (by rw [e]; decide) b c
  · exact vv v u (by rw [e]; decide) b c
  · rw [(PS_0 (by rw [e]; decide)).2]; rfl
theorem LfO.ps (z : LfO l V s n op vl x) : PS s (h + 1) n = if x = 1 then 1 else 2 := by
  have vv : ∀ v u, tA s 121 n ∈ ([2, 3, 4] : List Int32) → tA s 122 n = nI v → LfU s v u x → PS s (h + 1) n = if x = 1 then 1 else 2 := fun v u e ev lu => by
    obtain ⟨⟨l1, l2⟩, -, -, l3, l4⟩ := lu
    have en : ngv s n ↔ ¬ 0 ≤ x := by unfold ngv; rw [ev, ix_nI (by omega), l1, l3]; exact ⟨fun y => y.2, fun y => ⟨rfl, y⟩⟩
    rw [(PS_v e).1]
    rcases sg_pos l4 with ⟨p1, p2⟩ | ⟨p1, p2⟩
    · rw [ifF (fun y => en.mp y p2), ifT p1]
    · rw [ifT (en.mpr p2), ifF (by rw [p1]; decide)]
  rcases z with ⟨e, v, u, ⟨b, -⟩, c, -⟩ | ⟨e, v, u, ⟨b, -⟩, c, -⟩ | ⟨e, v, u, ⟨b, -⟩, c, -⟩ | ⟨e, u, b, c, rfl, -⟩
  · exact vv v u (by rw [e]; decide) b c
  · exact vv v u (by rw [e]; decide) b c
  · exact vv v u (by rw [e]; decide) b c
  · rw [(PS_0 (by rw [e]; decide)).1]; rfl
/-- an unknown, without a sign -/
theorem SxR.bu (hK : K < K') (nw : NwS l D M K op vl mo he 0 0 0 1) (i0 : 1 ≤ m ∧ m < N) (o : LfO l V s m op vl 1) : SxR D M s l V K' N (h + 1) 0 ((pl D l).getD K 0) m := by
  obtain ⟨n1, n2, n3, n4, n5, n6, n7, n8⟩ := nw
  refine ⟨⟨⟨K, hK, rfl⟩, i0⟩, ⟨1, n5, ⟨by omega, by omega⟩, fun _ => ?_⟩, ?_⟩
  · rw [o.ph]; rfl
  · unfold lf3
    rw [n1, n2, n6, n7, n8]
    exact Or.inr (Or.inl ⟨rfl, op, vl, 1, o, Or.inl ⟨rfl, rfl, rfl, rfl, rfl, rfl⟩⟩)
/-- with it -/
theorem SxR.bn (hK : K < K') (hk : k < K') (nw : NwS l D M k 7 vl mo he ((pl D l).getD K 0) 0 0 2) (i0 : 1 ≤ m ∧ m < N) {vl' mo' he' : Int32} (nw' : NwS l D M K op vl' mo' he' 0 0 0 1) (o : LfO l V s m op vl' (-1)) : SxR D M s l V K' N (h + 1) 0 ((pl D l).getD k 0) m := by
  obtain ⟨n1, n2, n3, n4, n5, n6, n7, n8⟩ := nw
  obtain ⟨b1, b2, b3, b4, b5, b6, b7, b8⟩ := nw'
  refine ⟨⟨⟨k, hk, rfl⟩, i0⟩, ⟨2, n5, ⟨by omega, by omega⟩, fun _ => ?_⟩, ?_⟩
  · rw [o.ph]; rfl
  · unfold lf3
    rw [n1, n6, n7, n8, b1, b2, b5, b6, b7, b8]
    exact Or.inr (Or.inl ⟨rfl, op, vl', -1, o, Or.inr ⟨rfl, rfl, rfl, rfl, ⟨K, hK, rfl⟩, rfl, rfl, ⟨rfl, rfl, rfl⟩, rfl⟩⟩)
theorem NwS.sv (h : NwS l D M K op vl mo he c1 c2 c3 t1) (g : SnK D M D' M' l K') (hk : K < K') : NwS l D' M' K op vl mo he c1 c2 c3 t1 := by
  obtain ⟨e1, e2, e3⟩ := g K hk
  unfold NwS
  rw [e1, e2, e2, e2, e2, e2, e3, e3, e3]; exact h
end BUILD
section COPY2
variable {s s' s1 s2 σ : TS} {D D' D2 : FQ} {M M' M1 M2 : CM} {l V K K0 K' N N' h h' f st a n m p q r k c1 c2 c3 t1 t2 t3 j u v w x0 X H z z1 z2 z3 : Nat} {op vl x kx mo he cc : Int32} {E : Prop}
theorem NdS2.one : NdS2 133 134 40000 200 := Or.inl ⟨rfl, rfl, rfl, rfl⟩
/-- a leaf is copied -/
theorem k_cpL (A : ArS 133 134 40000 D M K) (r69 : mR M 69 1 = 133) (hk : k < K) (ha : a = (pl D 134).getD k 0) (lf : lf3 M a) (hf : 1 < f) : OKA 133 134 40000 D M K (KG_X0_copy f a M) 1 (fun D' M' K' a' => a' = (pl D' 134).getD K 0 ∧ NwS 134 D' M' K (mI M 3400 a) (mI M 3401 a) (mI M 3402 a) (mI M 3403 a) 0 0 0 1) E := by
  obtain ⟨f, rfl⟩ : ∃ g, f = g + 1 + 1 := ⟨f - 2, by omega⟩
  have nul : ∀ M, KG_X0_copy (f + 1) 0 M = some (.inl 0, M) := fun M => by
    show KB_X0_copy (KG_X0_copy f) 0 M = _
    unfold KB_X0_copy; rw [ifT rfl]
  obtain ⟨l1, l2, l3⟩ := lf
  show OKA 133 134 40000 D M K (KB_X0_copy (KG_X0_copy (f + 1)) a M) 1 _ E
  refine (k_cpB (z1 := 0) (z2 := 0) (z3 := 0) NdS2.one A r69 hk ha (Q1 := fun D' M' K' a => a = 0 ∧ D' = D ∧ M' = M ∧ K' = K) (Q2 := fun r1 D' M' K' a => (a = 0 ∧ r1 = 0) ∧ D' = D ∧ M' = M ∧ K' = K) (Q3 := fun r1 r2 D' M' K' a => (a = 0 ∧ r2 = 0 ∧ r1 = 0) ∧ D' = D ∧ M' = M ∧ K' = K) (Q := fun D' M' K' a' => a' = (pl D' 134).getD K 0 ∧ NwS 134 D' M' K (mI M 3400 a) (mI M 3401 a) (mI M 3402 a) (mI M 3403 a) 0 0 0 1) (by rw [l1, nul]; exact ka_null A) (fun r1 D1 M1 K1 A1 S1 q => ?_) (fun r1 r2 D1 M1 K1 A1 S1 q => ?_) (fun r1 r2 r3 D3 M3 K3 A3 S3 q => ?_)).mono rfl (fun _ _ _ _ _ _ _ q => q) id
  · obtain ⟨q1, rfl, rfl, rfl⟩ := q
    rw [l2, nul]
    exact (ka_null A1).mono rfl (fun _ _ _ _ _ _ _ z => ⟨⟨z.1, q1⟩, z.2⟩) id
  · obtain ⟨⟨q1, q2⟩, rfl, rfl, rfl⟩ := q
    rw [l3, nul]
    exact (ka_null A1).mono rfl (fun _ _ _ _ _ _ _ z => ⟨⟨z.1, q1, q2⟩, z.2⟩) id
  · obtain ⟨⟨rfl, rfl, rfl⟩, rfl, rfl, rfl⟩ := q
    refine ⟨0, 0, 0, Or.inl ⟨rfl, rfl⟩, Or.inl ⟨rfl, rfl⟩, Or.inl ⟨rfl, rfl⟩, by rw [hgt0]; decide, fun D4 M4 A4 S4 nw => ⟨rfl, ?_⟩⟩
    rw [hgt0] at nw; exact nw
/-- a tree is copied -/
theorem k_cpT (hV : V ≤ 96) (h7 : N ≤ 70000) : ∀ (h f st a n : Nat) (D : FQ) (M : CM) (K : Nat), h + 1 < f → h ≤ 900 → ArS 133 134 40000 D M K → mR M 69 1 = 133 → SxR D M s 134 V K N h st a n → PH s h n ≤ 200 → OKA 133 134 40000 D M K (KG_X0_copy f a M) (PS s h n) (fun D' M' K' a' => SxR D' M' s 134 V K' N h st a' n) E
  | 0, _, _, _, _, _, _, _, _, _, _, _, z, _ => z.elim
  | h + 1, 0, _, _, _, _, _, _, hf, _, _, _, _, _ => absurd hf (Nat.not_lt_zero _)
  | h + 1, f + 1, st, a, n, D, M, K, hf, hh, A, r69, z, hp => by
    have ih := fun st a n D M K A r z hp => k_cpT hV h7 h f st a n D M K (by omega) (by omega) A r z hp
    have x0 := NdS2.one
    have z0 := z
    have tz := TwT.ph h7 _ _ _ (z0.tw)
    obtain ⟨⟨⟨k, k1, k2⟩, nb⟩, -, z⟩ := z
    have nul : ∀ M, KG_X0_copy f 0 M = some (.inl 0, M) := fun M => by
      obtain ⟨g, rfl⟩ : ∃ g, f = g + 1 := ⟨f - 1, by omega⟩
      show KB_X0_copy (KG_X0_copy g) 0 M = _
      unfold KB_X0_copy; rw [ifT rfl]
    have mv : ∀ {D1 M1 K1 st a n}, StA 133 134 D M K D1 M1 K1 → SxR D M s 134 V K N h st a n → SxR D1 M1 s 134 V K1 N h st a n := fun S q => SxR.mv (S.sn x0 A) NdX.rf S.1 (Nat.le_refl _) h7 _ _ _ _ _ (Nat.le_refl _) q
    have mv2 : ∀ {D1 M1 K1 D2 M2 K2 st a n}, ArS 133 134 40000 D1 M1 K1 → StA 133 134 D1 M1 K1 D2 M2 K2 → SxR D1 M1 s 134 V K1 N h st a n → SxR D2 M2 s 134 V K2 N h st a n := fun A1 S q => SxR.mv (S.sn x0 A1) NdX.rf S.1 (Nat.le_refl _) h7 _ _ _ _ _ (Nat.le_refl _) q
    have r69' : ∀ {D1 M1 K1}, StA 133 134 D M K D1 M1 K1 → mR M1 69 1 = 133 := fun S => by rw [(S.s1 x0 A.2.2.1 (by decide)).r]; exact r69
    show OKA 133 134 40000 D M K (KB_X0_copy (KG_X0_copy f) a M) _ _ E
    have leaf : lf3 M a → (∀ D' M', NwS 134 D' M' K (mI M 3400 a) (mI M 3401 a) (mI M 3402 a) (mI M 3403 a) 0 0 0 1 → SxR D' M' s 134 V (K + 1) N (h + 1) st ((pl D' 134).getD K 0) n) → PS s (h + 1) n = 1 → OKA 133 134 40000 D M K (KB_X0_copy (KG_X0_copy f) a M) (PS s (h + 1) n) (fun D' M' K' a' => SxR D' M' s 134 V K' N (h + 1) st a' n) E := fun lf hb e => by
      rw [e]
      refine (k_cpL (f := f + 1) A r69 k1 k2 lf (by omega)).mono rfl (fun D' M' K' a' A' S' e' q => ?_) id
      rw [q.1, e']; exact hb D' M' q.2
    rcases z with ⟨rfl, q1, q2⟩ | ⟨rfl, op, vl, x, q1, q2⟩ | ⟨q1, ⟨x, x1, x2⟩, q2, q3⟩ | ⟨q1, ⟨x, x1, x2⟩, ⟨y, y1, y2⟩, q2⟩ | ⟨rfl, q2, q1, ⟨x, x1, x2⟩, ⟨y, y1, y2⟩, w, w1, w2⟩ | ⟨rfl, q1, ⟨y, y1, y2⟩, ⟨w, w1, w2⟩, q2⟩ | ⟨rfl, q2, q1, q3, q4, q5⟩
    · refine leaf q1 (fun D' M' nw => SxR.b0 (Nat.lt_succ_self _) nw nb ?_) ?_
      · rcases q2 with ⟨b1, b2, b3⟩ | q2 | q2
        · exact Or.inl ⟨b1, b2, b3⟩
        · exact Or.inr (Or.inl q2)
        · exact Or.inr (Or.inr q2)
      · rcases q2 with ⟨-, e, -⟩ | ⟨-, e⟩ | ⟨e, v, ⟨-, v1⟩, -, v2, v3, -⟩
        · exact (PS_0 (by rw [e]; decide)).1
        · exact (PS_0 (by rw [e]; decide)).1
        · have e' : tA s 121 n ∈ ([2, 3, 4] : List Int32) := by
            simp only [List.mem_cons, Prod.mk.injEq, List.not_mem_nil, or_false] at e
            rcases e with ⟨-, e⟩ | ⟨-, e⟩ <;> rw [e] <;> decide
          have ng : ¬ ngv s n := fun y => by unfold ngv at y; rw [v2, ix_nI (by omega)] at y; exact v3 y.1
          rw [(PS_v e').1, ifF ng]
    · rcases q2 with ⟨rfl, b1, b2, b3⟩ | ⟨rfl, b1, b2, b3, ⟨j, j1, j2⟩, b4, b5, b6, b7⟩
      · exact leaf b3 (fun D' M' nw => SxR.bu (Nat.lt_succ_self _) nw nb (by rw [b1, b2]; exact q1)) (by rw [q1.ps]; rfl)
      · rw [q1.ps]
        refine (k_cpB (z1 := 1) (z2 := 0) (z3 := 0) x0 A r69 k1 k2 (Q1 := fun D' M' K' a' => K' = K + 1 ∧ a' = (pl D' 134).getD K 0 ∧ NwS 134 D' M' K op vl (mI M 3402 (mR M 3405 a)) (mI M 3403 (mR M 3405 a)) 0 0 0 1) (Q2 := fun r1 D' M' K' r2 => r2 = 0 ∧ K' = K + 1 ∧ r1 = (pl D' 134).getD K 0 ∧ NwS 134 D' M' K op vl (mI M 3402 (mR M 3405 a)) (mI M 3403 (mR M 3405 a)) 0 0 0 1) (Q3 := fun r1 r2 D' M' K' r3 => (r2 = 0 ∧ r3 = 0) ∧ K' = K + 1 ∧ r1 = (pl D' 134).getD K 0 ∧ NwS 134 D' M' K op vl (mI M 3402 (mR M 3405 a)) (mI M 3403 (mR M 3405 a)) 0 0 0 1) (Q := fun D' M' K' a' => SxR D' M' s 134 V K' N (h + 1) 0 a' n) ?_ (fun r1 D1 M1 K1 A1 S1 q => ?_) (fun r1 r2 D1 M1 K1 A1 S1 q => ?_) (fun r1 r2 r3 D3 M3 K3 A3 S3 q => ?_)).mono rfl (fun _ _ _ _ _ _ _ q => q) id
        · refine (k_cpL (f := f) A r69 j1 j2 b6 (by omega)).mono rfl (fun D' M' K' a' A' S' e' q => ⟨e', q.1, ?_⟩) id
          rw [b4, b5] at q; exact q.2
        · rw [b2, nul]
          exact (ka_null A1).mono rfl (fun _ _ _ _ _ _ _ z => ⟨z.1, by rw [z.2.1, z.2.2.1, z.2.2.2]; exact q⟩) id
        · obtain ⟨q0, q⟩ := q
          rw [b3, nul]
          exact (ka_null A1).mono rfl (fun _ _ _ _ _ _ _ z => ⟨⟨q0, z.1⟩, by rw [z.2.1, z.2.2.1, z.2.2.2]; exact q⟩) id
        · obtain ⟨⟨rfl, rfl⟩, rfl, rfl, nw⟩ := q
          have h12 : hgt 1 0 0 = 2 := by decide
          refine ⟨1, 0, 0, Or.inr ⟨K, by omega, rfl, nw.2.2.2.2.1, by decide⟩, Or.inl ⟨rfl, rfl⟩, Or.inl ⟨rfl, rfl⟩, by rw [h12]; decide, fun D4 M4 A4 S4 nw4 => ?_⟩
          rw [h12, b1] at nw4
          have nw' := nw.sv (S4.sn x0 A3) (Nat.lt_succ_self K)
          have e4 := ((S4.sn x0 A3) K (Nat.lt_succ_self K)).1
          rw [← e4] at nw4
          exact SxR.bn (Nat.lt_succ_of_lt (Nat.lt_succ_self _)) (Nat.lt_succ_self _) nw4 nb nw' q1
    · have sz := PS_1 (h := h) (one_k1 (oneX_T q1))
      have xx : ix (nI x) = x := ix_nI (by have := x2.nb.2; omega)
      rw [x1, xx] at sz
      have e1 : hgt (PH s h x) 0 0 = PH s h x + 1 := by rw [hgt_eq]; omega
      refine (k_cpB (z1 := PS s h x) (z2 := 0) (z3 := 0) x0 A r69 k1 k2 (Q1 := fun D' M' K' a' => SxR D' M' s 134 V K' N h st a' x) (Q2 := fun r1 D' M' K' r2 => r2 = 0 ∧ SxR D' M' s 134 V K' N h st r1 x) (Q3 := fun r1 r2 D' M' K' r3 => (r2 = 0 ∧ r3 = 0) ∧ SxR D' M' s 134 V K' N h st r1 x) (Q := fun D' M' K' a' => SxR D' M' s 134 V K' N (h + 1) st a' n) (ih _ _ _ _ _ _ A r69 x2 (by omega)) (fun r1 D1 M1 K1 A1 S1 q => ?_) (fun r1 r2 D1 M1 K1 A1 S1 q => ?_) (fun r1 r2 r3 D3 M3 K3 A3 S3 q => ?_)).mono (by rw [sz.1]; omega) (fun _ _ _ _ _ _ _ q => q) id
      · rw [q2, nul]
        exact (ka_null A1).mono rfl (fun _ _ _ _ _ _ _ z => ⟨z.1, by rw [z.2.1, z.2.2.1, z.2.2.2]; exact q⟩) id
      · obtain ⟨q0, q⟩ := q
        rw [q3, nul]
        exact (ka_null A1).mono rfl (fun _ _ _ _ _ _ _ z => ⟨⟨q0, z.1⟩, by rw [z.2.1, z.2.2.1, z.2.2.2]; exact q⟩) id
      · obtain ⟨⟨rfl, rfl⟩, q⟩ := q
        obtain ⟨t, c1, c2, c3, c4, c5⟩ := q.ch (by omega)
        have c5 := c5 rfl
        refine ⟨t, 0, 0, c1, Or.inl ⟨rfl, rfl⟩, Or.inl ⟨rfl, rfl⟩, by rw [c5]; omega, fun D4 M4 A4 S4 nw4 => ?_⟩
        have q' := mv2 A3 S4 q
        exact SxR.b1 (Nat.lt_succ_self _) q1 nw4 ⟨nb, rfl, x1⟩ q' (by omega) ⟨by obtain ⟨j, j1, j2⟩ := q.nb.1; rw [j2, ((S4.sn x0 A3) j j1).2.1, ← j2]; exact c2, by omega⟩ h7
    · have sz := PS_2 (h := h) (two_k2 (twoX_T q1))
      have xx : ix (nI x) = x := ix_nI (by have := x2.nb.2; omega)
      have yy : ix (nI y) = y := ix_nI (by have := y2.nb.2; omega)
      rw [x1, xx, y1, yy, hgt_eq] at sz
      refine (k_cpB (z1 := PS s h x) (z2 := PS s h y) (z3 := 0) x0 A r69 k1 k2 (Q1 := fun D' M' K' a' => SxR D' M' s 134 V K' N h st a' x) (Q2 := fun r1 D' M' K' r2 => SxR D' M' s 134 V K' N h st r1 x ∧ SxR D' M' s 134 V K' N h st r2 y) (Q3 := fun r1 r2 D' M' K' r3 => r3 = 0 ∧ SxR D' M' s 134 V K' N h st r1 x ∧ SxR D' M' s 134 V K' N h st r2 y) (Q := fun D' M' K' a' => SxR D' M' s 134 V K' N (h + 1) st a' n) (ih _ _ _ _ _ _ A r69 x2 (by omega)) (fun r1 D1 M1 K1 A1 S1 q => ?_) (fun r1 r2 D1 M1 K1 A1 S1 q => ?_) (fun r1 r2 r3 D3 M3 K3 A3 S3 q => ?_)).mono (by rw [sz.1]; omega) (fun _ _ _ _ _ _ _ q => q) id
      · exact (ih _ _ _ _ _ _ A1 (r69' S1) (mv S1 y2) (by omega)).mono rfl (fun D' M' K' a' A' S' _ z => ⟨mv2 A1 S' q, z⟩) id
      · rw [q2, nul]
        exact (ka_null A1).mono rfl (fun _ _ _ _ _ _ _ z => ⟨z.1, by rw [z.2.1, z.2.2.1, z.2.2.2]; exact q⟩) id
      · obtain ⟨rfl, q, q'⟩ := q
        obtain ⟨t, c1, c2, c3, c4, c5⟩ := q.ch (by omega)
        obtain ⟨t', c1', c2', c3', c4', c5'⟩ := q'.ch (by omega)
        have c5 := c5 rfl
        have c5' := c5' rfl
        refine ⟨t, t', 0, c1, c1', Or.inl ⟨rfl, rfl⟩, by rw [c5, c5', hgt_eq]; omega, fun D4 M4 A4 S4 nw4 => ?_⟩
        have hm : ∀ {c t}, (∃ k, k < K3 ∧ c = (pl D3 134).getD k 0) → mI M3 3404 c = nI t → mI M4 3404 c = nI t := fun ⟨j, j1, j2⟩ e => by rw [j2, ((S4.sn x0 A3) j j1).2.1, ← j2]; exact e
        exact SxR.b2 (Nat.lt_succ_self _) q1 nw4 ⟨nb, rfl, x1, y1⟩ (mv2 A3 S4 q) (mv2 A3 S4 q') (by omega) ⟨hm q.nb.1 c2, by omega⟩ ⟨hm q'.nb.1 c2', by omega⟩ h7
    · have sz := PS_3 (h := h) q1
      have xx : ix (nI x) = x := ix_nI (by have := x2.nb.2; omega)
      have yy : ix (nI y) = y := ix_nI (by have := y2.nb.2; omega)
      have ww : ix (nI w) = w := ix_nI (by have := w2.nb.2; omega)
      rw [x1, xx, y1, yy, w1, ww, hgt_eq] at sz
      refine (k_cpB (z1 := PS s h x) (z2 := PS s h y) (z3 := PS s h w) x0 A r69 k1 k2 (Q1 := fun D' M' K' a' => SxR D' M' s 134 V K' N h 1 a' x) (Q2 := fun r1 D' M' K' r2 => SxR D' M' s 134 V K' N h 1 r1 x ∧ SxR D' M' s 134 V K' N h 0 r2 y) (Q3 := fun r1 r2 D' M' K' r3 => SxR D' M' s 134 V K' N h 1 r1 x ∧ SxR D' M' s 134 V K' N h 0 r2 y ∧ SxR D' M' s 134 V K' N h 0 r3 w) (Q := fun D' M' K' a' => SxR D' M' s 134 V K' N (h + 1) 0 a' n) (ih _ _ _ _ _ _ A r69 x2 (by omega)) (fun r1 D1 M1 K1 A1 S1 q => ?_) (fun r1 r2 D1 M1 K1 A1 S1 q => ?_) (fun r1 r2 r3 D3 M3 K3 A3 S3 q => ?_)).mono (by rw [sz.1]; omega) (fun _ _ _ _ _ _ _ q => q) id
      · exact (ih _ _ _ _ _ _ A1 (r69' S1) (mv S1 y2) (by omega)).mono rfl (fun D' M' K' a' A' S' _ z => ⟨mv2 A1 S' q, z⟩) id
      · exact (ih _ _ _ _ _ _ A1 (r69' S1) (mv S1 w2) (by omega)).mono rfl (fun D' M' K' a' A' S' _ z => ⟨mv2 A1 S' q.1, mv2 A1 S' q.2, z⟩) id
      · obtain ⟨q, q', q''⟩ := q
        obtain ⟨t, c1, c2, c3, c4, c5⟩ := q.ch (by omega)
        obtain ⟨t', c1', c2', c3', c4', c5'⟩ := q'.ch (by omega)
        obtain ⟨t2, d1, d2, d3, d4, d5⟩ := q''.ch (by omega)
        have c5 := c5 rfl
        have c5' := c5' rfl
        have d5 := d5 rfl
        refine ⟨t, t', t2, c1, c1', d1, by rw [c5, c5', d5, hgt_eq]; omega, fun D4 M4 A4 S4 nw4 => ?_⟩
        have hm : ∀ {c t}, (∃ k, k < K3 ∧ c = (pl D3 134).getD k 0) → mI M3 3404 c = nI t → mI M4 3404 c = nI t := fun ⟨j, j1, j2⟩ e => by rw [j2, ((S4.sn x0 A3) j j1).2.1, ← j2]; exact e
        rw [q2] at nw4
        exact SxR.b3 (Nat.lt_succ_self _) nw4 ⟨nb, q1, x1, y1, w1⟩ (mv2 A3 S4 q) (mv2 A3 S4 q') (mv2 A3 S4 q'') (by omega) ⟨hm q.nb.1 c2, by omega⟩ ⟨hm q'.nb.1 c2', by omega⟩ ⟨hm q''.nb.1 d2, by omega⟩ h7
    · have sz := PS_4 (h := h) (s := s) (n := n) (q1.imp (fun q => q.1) (fun q => q.1))
      have yy : ix (nI y) = y := ix_nI (by have := y2.nb.2; omega)
      have ww : ix (nI w) = w := ix_nI (by have := w2.nb.2; omega)
      rw [y1, yy, w1, ww, hgt_eq] at sz
      refine (k_cpB (z1 := PS s h y) (z2 := PS s h w) (z3 := 0) x0 A r69 k1 k2 (Q1 := fun D' M' K' a' => SxR D' M' s 134 V K' N h 0 a' y) (Q2 := fun r1 D' M' K' r2 => SxR D' M' s 134 V K' N h 0 r1 y ∧ SxR D' M' s 134 V K' N h 0 r2 w) (Q3 := fun r1 r2 D' M' K' r3 => r3 = 0 ∧ SxR D' M' s 134 V K' N h 0 r1 y ∧ SxR D' M' s 134 V K' N h 0 r2 w) (Q := fun D' M' K' a' => SxR D' M' s 134 V K' N (h + 1) 1 a' n) (ih _ _ _ _ _ _ A r69 y2 (by omega)) (fun r1 D1 M1 K1 A1 S1 q => ?_) (fun r1 r2 D1 M1 K1 A1 S1 q => ?_) (fun r1 r2 r3 D3 M3 K3 A3 S3 q => ?_)).mono (by rw [sz.1]; omega) (fun _ _ _ _ _ _ _ q => q) id
      · exact (ih _ _ _ _ _ _ A1 (r69' S1) (mv S1 w2) (by omega)).mono rfl (fun D' M' K' a' A' S' _ z => ⟨mv2 A1 S' q, z⟩) id
      · rw [q2, nul]
        exact (ka_null A1).mono rfl (fun _ _ _ _ _ _ _ z => ⟨z.1, by rw [z.2.1, z.2.2.1, z.2.2.2]; exact q⟩) id
      · obtain ⟨rfl, q, q'⟩ := q
        obtain ⟨t, c1, c2, c3, c4, c5⟩ := q.ch (by omega)
        obtain ⟨t', c1', c2', c3', c4', c5'⟩ := q'.ch (by omega)
        have c5 := c5 rfl
        have c5' := c5' rfl
        refine ⟨t, t', 0, c1, c1', Or.inl ⟨rfl, rfl⟩, by rw [c5, c5', hgt_eq]; omega, fun D4 M4 A4 S4 nw4 => ?_⟩
        have hm : ∀ {c t}, (∃ k, k < K3 ∧ c = (pl D3 134).getD k 0) → mI M3 3404 c = nI t → mI M4 3404 c = nI t := fun ⟨j, j1, j2⟩ e => by rw [j2, ((S4.sn x0 A3) j j1).2.1, ← j2]; exact e
        exact SxR.b4 (Nat.lt_succ_self _) nw4 nb q1 y1 w1 (mv2 A3 S4 q) (mv2 A3 S4 q') (by omega) ⟨hm q.nb.1 c2, by omega⟩ ⟨hm q'.nb.1 c2', by omega⟩ h7
    · refine leaf q3 (fun D' M' nw => ?_) (PS_0 (by rw [q1]; decide)).1
      rw [q2] at nw
      exact SxR.bs (Nat.lt_succ_self _) nw nb q1 q4 q5
end COPY2
