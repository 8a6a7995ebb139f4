/-! Layer B: the component solves a flat tree by heads and unknowns -/
set_option maxRecDepth 100000
abbrev isR (s : TS) (m : Nat) : Prop := tA s 121 m = 20 ∨ tA s 121 m = 24
/-- variables: kind; head, sign, unknown, its derivative -/
def VaD (D : FQ) (M : CM) (s : TS) (V : Nat) : Prop := V ≤ (pl D 98).length ∧ ∀ v, v < V → (∃ x, x < 3 ∧ mI M 3203 ((pl D 98).getD v 0) = nI x ∧ tA s 94 v = nI x) ∧ (tA s 94 v = 0 → ∃ w x u, w < V ∧ mI M 3217 ((pl D 98).getD v 0) = nI w ∧ mI M 3218 ((pl D 98).getD v 0) = x ∧ mI M 3219 ((pl D 98).getD w 0) = nI u ∧ LfU s v u x ∧ mA M 121 u = tA s 189 u)
/-- relations of a tree have numbers, each its own -/
def NumT (D : FQ) (M : CM) (s : TS) (Kf N h n : Nat) : Prop := ∀ m, OcT s N h n m → isR s m → (1 ≤ m ∧ m ≤ Kf) ∧ ∃ r, r < 24 ∧ mI M 3403 ((pl D 106).getD (m - 1) 0) = nI r ∧ tA s 162 m = nI r ∧ tA s 153 r = nI m ∧ nI r < tI s 154
/-- derivatives that stand in a tree have unknowns -/
def DrD (s : TS) (h n : Nat) : Prop := ∀ v u x, DrL s h n v → LfU s v u x → ∃ d, d < 180 ∧ tA s 189 u = nI d
/-- relations of a set are told -/
def RlS (D : FQ) (M0 : CM) (M : CM) (s : TS) (l V K N : Nat) (P : Nat → Prop) : Prop := (∀ m r, P m → isR s m → r < 24 → tA s 162 m = nI r → SxR D M s l V K N 100 1 (mX M 137 r) m) ∧ ∀ r, r < 24 → mX M 137 r = mX M0 137 r ∨ ∃ m, P m ∧ isR s m ∧ tA s 162 m = nI r
/-- numbers are one node's -/
def UnS (s : TS) (P : Nat → Prop) : Prop := ∀ m r, P m → isR s m → r < 24 → tA s 162 m = nI r → tA s 153 r = nI m ∧ m < 100000
def NuA (s : TS) (Kf : Nat) : Prop := ∀ k, k < Kf → tA s 121 (k + 1) = 0 → 0 ≤ tA s 122 (k + 1)
def EnS (x0 l X Kf V : Nat) (s : TS) (D : FQ) (M : CM) (K : Nat) : Prop := ArS x0 l X D M K ∧ mR M 69 1 = x0 ∧ (Kf ≤ (pl D 106).length ∧ Kf ≤ 12000 ∧ NuA s Kf) ∧ VaD D M s V
section SOLVED
variable {s s' s1 s2 σ : TS} {D D' D1 D2 : FQ} {M M0 M' M1 M2 : CM} {l V K K1 K2 K0 K' Kf N N' h h' f st a n m p q r k c1 c2 c3 t1 t2 t3 j u v w x0 X H z z1 z2 z3 o y : Nat} {op vl x kx mo he op' vl' : Int32} {Q Q' Q1 : FQ → CM → Nat → Nat → Prop} {E E' : Prop} {cf : Nat → CM → Option ((Nat ⊕ Nat) × CM)} {P P' P1 P2 : Nat → Prop}
theorem oc_ex {x : Nat} (e : tA s f n = nI x) (hx : x < 100000) : (∃ y, tA s f n = nI y ∧ OcT s N h y m) ↔ OcT s N h x m := ⟨fun ⟨y, y1, y2⟩ => by rw [nIq (e.symm.trans y1) hx y2.lt.2]; exact y2, fun z => ⟨x, e, z⟩⟩
theorem oc_0 (nb : n < N ∧ n < 100000) (q : tA s 121 n ∈ k0T) : OcT s N (h + 1) n m ↔ m = n := by
  rw [OcT]
  have hk : tA s 121 n ∉ kd2 ∧ tA s 121 n ∉ kd3 ∧ tA s 121 n ∉ kd4 := by
    simp only [List.mem_cons, List.not_mem_nil, or_false] at q
    rcases q with q | q | q | q | q | q <;> rw [q] <;> decide
  refine ⟨fun ⟨_, z⟩ => ?_, fun z => ⟨nb, Or.inl z⟩⟩
  rcases z with z | ⟨z, _⟩ | ⟨z, _⟩ | ⟨z, _⟩
  · exact z
  · exact absurd z hk.1
  · exact absurd z hk.2.1
  · exact absurd z hk.2.2
theorem oc_1 {x : Nat} (nb : n < N ∧ n < 100000) (q : tA s 121 n ∈ k1T) (e : tA s 122 n = nI x) (hx : x < 100000) : OcT s N (h + 1) n m ↔ OcT s N h x m ∨ m = n := by
  rw [OcT, oc_ex e hx]
  have hk : tA s 121 n ∈ kd2 ∧ tA s 121 n ∉ kd3 ∧ tA s 121 n ∉ kd4 := by
    simp only [List.mem_cons, List.not_mem_nil, or_false] at q
    rcases q with q | q | q | q | q | q <;> rw [q] <;> decide
  refine ⟨fun ⟨_, z⟩ => ?_, fun z => ⟨nb, z.elim (fun z => Or.inr (Or.inl ⟨hk.1, z⟩)) Or.inl⟩⟩
  rcases z with z | ⟨_, z⟩ | ⟨z, _⟩ | ⟨z, _⟩
  · exact Or.inr z
  · exact Or.inl z
  · exact absurd z hk.2.1
  · exact absurd z hk.2.2
theorem oc_2 {x : Nat} (nb : n < N ∧ n < 100000) (q : tA s 121 n ∈ k2T) (e : tA s 122 n = nI x) (hx : x < 100000) (e' : tA s 123 n = nI y) (hy : y < 100000) : OcT s N (h + 1) n m ↔ (OcT s N h x m ∨ OcT s N h y m) ∨ m = n := by
  rw [OcT, oc_ex e hx, oc_ex e' hy]
  have hk : tA s 121 n ∈ kd2 ∧ tA s 121 n ∈ kd3 ∧ tA s 121 n ∉ kd4 := by
    simp only [List.mem_cons, List.not_mem_nil, or_false] at q
    rcases q with q | q | q | q | q | q | q | q <;> rw [q] <;> decide
  refine ⟨fun ⟨_, z⟩ => ?_, fun z => ⟨nb, ?_⟩⟩
  · rcases z with z | ⟨_, z⟩ | ⟨_, z⟩ | ⟨z, _⟩
    · exact Or.inr z
    · exact Or.inl (Or.inl z)
    · exact Or.inl (Or.inr z)
    · exact absurd z hk.2.2
  · rcases z with (z | z) | z
    · exact Or.inr (Or.inl ⟨hk.1, z⟩)
    · exact Or.inr (Or.inr (Or.inl ⟨hk.2.1, z⟩))
    · exact Or.inl z
theorem oc_3 {x : Nat} (nb : n < N ∧ n < 100000) (q : tA s 121 n = 16) (e : tA s 122 n = nI x) (hx : x < 100000) (e' : tA s 123 n = nI y) (hy : y < 100000) (e2 : tA s 124 n = nI w) (hw : w < 100000) : OcT s N (h + 1) n m ↔ ((OcT s N h x m ∨ OcT s N h y m) ∨ OcT s N h w m) ∨ m = n := by
  rw [OcT, oc_ex e hx, oc_ex e' hy, oc_ex e2 hw]
  have hk : tA s 121 n ∈ kd2 ∧ tA s 121 n ∈ kd3 ∧ tA s 121 n ∈ kd4 := by rw [q]; decide
  refine ⟨fun ⟨_, z⟩ => ?_, fun z => ⟨nb, ?_⟩⟩
  · rcases z with z | ⟨_, z⟩ | ⟨_, z⟩ | ⟨_, z⟩
    · exact Or.inr z
    · exact Or.inl (Or.inl (Or.inl z))
    · exact Or.inl (Or.inl (Or.inr z))
    · exact Or.inl (Or.inr z)
  · rcases z with ((z | z) | z) | z
    · exact Or.inr (Or.inl ⟨hk.1, z⟩)
    · exact Or.inr (Or.inr (Or.inl ⟨hk.2.1, z⟩))
    · exact Or.inr (Or.inr (Or.inr ⟨hk.2.2, z⟩))
    · exact Or.inl z
theorem oc_4 (nb : n < N ∧ n < 100000) (q : tA s 121 n = 20) (e' : tA s 123 n = nI y) (hy : y < 100000) (e2 : tA s 124 n = nI w) (hw : w < 100000) : OcT s N (h + 1) n m ↔ (OcT s N h y m ∨ OcT s N h w m) ∨ m = n := by
  rw [OcT, oc_ex e' hy, oc_ex e2 hw]
  have hk : tA s 121 n ∉ kd2 ∧ tA s 121 n ∈ kd3 ∧ tA s 121 n ∈ kd4 := by rw [q]; decide
  refine ⟨fun ⟨_, z⟩ => ?_, fun z => ⟨nb, ?_⟩⟩
  · rcases z with z | ⟨z, _⟩ | ⟨_, z⟩ | ⟨_, z⟩
    · exact Or.inr z
    · exact absurd z hk.1
    · exact Or.inl (Or.inl z)
    · exact Or.inl (Or.inr z)
  · rcases z with (z | z) | z
    · exact Or.inr (Or.inr (Or.inl ⟨hk.2.1, z⟩))
    · exact Or.inr (Or.inr (Or.inr ⟨hk.2.2, z⟩))
    · exact Or.inl z
/-- what is read stays -/
theorem EnS.mv (e : EnS x0 l X Kf V s D M K) (hx : NdS2 x0 l X H) (A1 : ArS x0 l X D1 M1 K1) (S : StH x0 l D M K D1 M1 K1) : EnS x0 l X Kf V s D1 M1 K1 ∧ NdK D M s D1 M1 s 106 Kf N := by
  obtain ⟨A, r69, ⟨hK, hK2⟩, hV, hv⟩ := e
  have nu := hx.nu
  have K4 : K1 ≤ 40000 := by have := A1.2.2.2.1.2.2; omega
  have l6 : (106 : Nat) ≠ l := by omega
  have l8 : (98 : Nat) ≠ l := by omega
  have p6 := S.2.2.1 106 l6
  have p8 := S.2.2.1 98 l8
  have so8 : ∀ v, v < V → So M M1 ((pl D 98).getD v 0) := fun v h => S.sl hx A.1 (l' := 98) (by decide) l8 (by omega) K4
  have so6 : ∀ k, k < Kf → So M M1 ((pl D 106).getD k 0) := fun v h => S.sl hx A.1 (l' := 106) (by decide) l6 (by omega) K4
  refine ⟨⟨A1, by rw [(S.s1 hx A.2.2.1 (by decide)).r]; exact r69, ⟨by rw [p6]; exact hK, hK2⟩, by rw [p8]; exact hV, fun v h => ?_⟩, fun k hk => ⟨by rw [p6], fun f _ => (so6 k hk).i f, fun f _ => (so6 k hk).r f⟩, fun _ _ _ _ => rfl, fun _ => rfl⟩
  obtain ⟨a1, a2⟩ := hv v h
  rw [p8, (so8 v h).i, (so8 v h).i, (so8 v h).i]
  refine ⟨a1, fun z => ?_⟩
  obtain ⟨w, x, u, b1, b2, b3, b4, b5, b6⟩ := a2 z
  exact ⟨w, x, u, b1, b2, b3, by rw [(so8 w b1).i]; exact b4, b5, by rw [(S.s1 hx A.2.2.1 (o := 121) (by decide)).a]; exact b6⟩
theorem NumT.mv (z : NumT D M s Kf N h n) (g : NdK D M s D1 M1 s 106 Kf N) : NumT D1 M1 s Kf N h n := fun m o r => by
  obtain ⟨⟨b1, b2⟩, r, c1, c2, c3⟩ := z m o r
  obtain ⟨e1, e2, -⟩ := g.1 (m - 1) (by omega)
  exact ⟨⟨b1, b2⟩, r, c1, by rw [e1, e2 3403 (by decide)]; exact c2, c3⟩
theorem NumT.un (z : NumT D M s Kf N h n) (hK : Kf ≤ 12000) : UnS s (OcT s N h n) := fun m r o i hr e => by
  obtain ⟨⟨b1, b2⟩, r', c1, c2, c3, c4⟩ := z m o i
  have : r' = r := nIq (c3.symm.trans e) (by omega) (by omega)
  subst this
  exact ⟨c4.1, by omega⟩
theorem RlS.im (z : RlS D M0 M s l V K N P) (h : ∀ m, P' m ↔ P m) : RlS D M0 M s l V K N P' := ⟨fun m r p => z.1 m r ((h m).mp p), fun r hr => (z.2 r hr).imp id (fun ⟨m, p, q⟩ => ⟨m, (h m).mpr p, q⟩)⟩
theorem RlS.mv (z : RlS D M0 M s l V K N P) (g : SnK D M D1 M1 l K) (hK : K ≤ K1) (h7 : N ≤ 70000) (e : ∀ j, mX M1 137 j = mX M 137 j) : RlS D1 M0 M1 s l V K1 N P := ⟨fun m r p i hr q => by rw [e]; exact SxR.mv g NdX.rf hK (Nat.le_refl _) h7 _ _ _ _ _ (Nat.le_refl _) (z.1 m r p i hr q), fun r hr => by rw [e]; exact z.2 r hr⟩
theorem RlS.seq (z : RlS D1 M0 M1 s l V K1 N P) (z' : RlS D2 M1 M2 s l V K2 N P') (g : SnK D1 M1 D2 M2 l K1) (hK : K1 ≤ K2) (h7 : N ≤ 70000) (U : UnS s P) (U' : UnS s P') : RlS D2 M0 M2 s l V K2 N (fun m => P m ∨ P' m) := by
  refine ⟨fun m r p i hr q => ?_, fun r hr => ?_⟩
  · rcases p with p | p
    · rcases z'.2 r hr with y | ⟨m', p', i', q'⟩
      · rw [y]; exact SxR.mv g NdX.rf hK (Nat.le_refl _) h7 _ _ _ _ _ (Nat.le_refl _) (z.1 m r p i hr q)
      · obtain ⟨a1, a2⟩ := U m r p i hr q
        obtain ⟨b1, b2⟩ := U' m' r p' i' hr q'
        have : m = m' := nIq (a1.symm.trans b1) a2 b2
        subst this
        exact z'.1 m r p' i' hr q'
    · exact z'.1 m r p i hr q
  · rcases z'.2 r hr with y | ⟨m', p', i', q'⟩
    · rw [y]
      exact (z.2 r hr).imp id (fun ⟨m, p, q⟩ => ⟨m, Or.inl p, q⟩)
    · exact Or.inr ⟨m', Or.inr p', i', q'⟩
/-- the node itself: no relation -/
theorem RlS.no (z : RlS D1 M0 M1 s l V K1 N P) (g : SnK D1 M1 D2 M2 l K1) (hK : K1 ≤ K2) (h7 : N ≤ 70000) (e : ∀ j, mX M2 137 j = mX M1 137 j) (hn : ¬ isR s n) : RlS D2 M0 M2 s l V K2 N (fun m => P m ∨ m = n) := by
  have z := z.mv g hK h7 e
  exact ⟨fun m r p i hr q => p.elim (fun p => z.1 m r p i hr q) (fun p => absurd (p ▸ i) hn), fun r hr => (z.2 r hr).imp id (fun ⟨m, p, q⟩ => ⟨m, Or.inl p, q⟩)⟩
/-- a relation -/
theorem RlS.new (z : RlS D1 M0 M1 s l V K1 N P) (g : SnK D1 M1 D2 M2 l K1) (hK : K1 ≤ K2) (h7 : N ≤ 70000) (U : UnS s (fun m => P m ∨ m = n)) (hn : isR s n) (hr : r < 24 ∧ tA s 162 n = nI r) (e : ∀ j, mX M2 137 j = if j = r then a else mX M1 137 j) (sx : SxR D2 M2 s l V K2 N 100 1 a n) : RlS D2 M0 M2 s l V K2 N (fun m => P m ∨ m = n) := by
  refine ⟨fun m r' p i hr' q => ?_, fun r' hr' => ?_⟩
  · rw [e]
    by_cases y : r' = r
    · subst y
      obtain ⟨a1, a2⟩ := U m r' p i hr' q
      obtain ⟨b1, b2⟩ := U n r' (Or.inr rfl) hn hr' hr.2
      have : m = n := nIq (a1.symm.trans b1) a2 b2
      subst this
      rw [ifT rfl]; exact sx
    · rw [ifF y]
      rcases p with p | p
      · exact SxR.mv g NdX.rf hK (Nat.le_refl _) h7 _ _ _ _ _ (Nat.le_refl _) (z.1 m r' p i hr' q)
      · subst p
        exact absurd (nIq (q.symm.trans hr.2) (by omega) (by omega)) y
  · rw [e]
    by_cases y : r' = r
    · subst y; exact Or.inr ⟨n, Or.inr rfl, hn, hr.2⟩
    · rw [ifF y]; exact (z.2 r' hr').imp id (fun ⟨m, p, q⟩ => ⟨m, Or.inl p, q⟩)
theorem RlS.nil (e : ∀ j, mX M1 137 j = mX M0 137 j) : RlS D1 M0 M1 s l V K1 N (fun _ => False) := ⟨fun _ _ p => p.elim, fun r _ => Or.inl (e r)⟩
theorem k_sv0 (f : Nat) (M : CM) : KG_X0_solvedEx (f + 1) 0 M = some (.inl 0, M) := by
  show KB_X0_solvedEx (KG_X0_solvedEx f) 0 M = _
  unfold KB_X0_solvedEx
  rw [ifT rfl]
/-- which way -/
theorem k_svW (ka : mk M a = 18) (a0 : a ≠ 0) : KB_X0_solvedEx cf a M = if mI M 3400 a = 1 ∨ mI M 3400 a = 15 ∨ mI M 3400 a = 16 then KJ_X0_solvedEx_32 cf a M else KJ_X0_solvedEx_57 cf a 0 M := by
  unfold KB_X0_solvedEx KJ_X0_solvedEx_56
  rw [ifF a0, ifT ka]
  by_cases h1 : mI M 3400 a = 1
  · rw [ifT h1, ifT (Or.inl h1)]
  · rw [ifF h1, ifT ka]
    by_cases h2 : mI M 3400 a = 15
    · rw [ifT h2, ifT (Or.inr (Or.inl h2))]
    · rw [ifF h2, ifT ka]
      by_cases h3 : mI M 3400 a = 16
      · rw [ifT h3, ifT (Or.inr (Or.inr h3))]
      · rw [ifF h3, ifF (fun z => by rcases z with z | z | z <;> contradiction)]
/-- a leaf -/
theorem k_svL (hx : NdS2 x0 l X H) (A : ArS x0 l X D M K) (r69 : mR M 69 1 = x0) (hk : k < (pl D 106).length) (ha : a = (pl D 106).getD k 0) (hhe : mI M 3403 a = -1 ∨ ∃ r, r < 24 ∧ mI M 3403 a = nI r) (lf : lf3 M a) (hf : 0 < f) : OKH x0 l X D M K (KJ_X0_solvedEx_57 (KG_X0_solvedEx f) a 0 M) 1 (fun D' M' K' a' => (K' = K + 1 ∧ a' = (pl D' l).getD K 0 ∧ NwS l D' M' K (mI M 3400 a) (mI M 3401 a) (mI M 3402 a) (mI M 3403 a) 0 0 0 1 ∧ SnK D M D' M' l K) ∧ ((mI M 3403 a = -1 ∧ ∀ j, mX M' 137 j = mX M 137 j) ∨ ∃ r, r < 24 ∧ mI M 3403 a = nI r ∧ ∀ j, mX M' 137 j = if j = r then (pl D' l).getD K 0 else mX M 137 j)) E := by
  obtain ⟨f, rfl⟩ : ∃ g, f = g + 1 := ⟨f - 1, by omega⟩
  have nul : ∀ M, KG_X0_solvedEx (f + 1) 0 M = some (.inl 0, M) := fun M => k_sv0 f M
  have hH : 200 ≤ H := by rcases hx with ⟨-, -, -, rfl⟩ | ⟨-, -, -, rfl⟩ <;> decide
  obtain ⟨l1, l2, l3⟩ := lf
  refine (k_svB (z1 := 0) (z2 := 0) (z3 := 0) hx A r69 hk ha hhe (Q1 := fun D' M' K' a => a = 0 ∧ D' = D ∧ M' = M ∧ K' = K) (Q2 := fun r1 D' M' K' a => (a = 0 ∧ r1 = 0) ∧ D' = D ∧ M' = M ∧ K' = K) (Q3 := fun r1 r2 D' M' K' a => (a = 0 ∧ r2 = 0 ∧ r1 = 0) ∧ D' = D ∧ M' = M ∧ K' = K) (Q := fun D' M' K' a' => (K' = K + 1 ∧ a' = (pl D' l).getD K 0 ∧ NwS l D' M' K (mI M 3400 a) (mI M 3401 a) (mI M 3402 a) (mI M 3403 a) 0 0 0 1 ∧ SnK D M D' M' l K) ∧ ((mI M 3403 a = -1 ∧ ∀ j, mX M' 137 j = mX M 137 j) ∨ ∃ r, r < 24 ∧ mI M 3403 a = nI r ∧ ∀ j, mX M' 137 j = if j = r then (pl D' l).getD K 0 else mX M 137 j)) (by rw [l1, nul]; exact kh_null A) (fun r1 D1 M1 K1 A1 S1 q => ?_) (fun r1 r2 D1 M1 K1 A1 S1 q => ?_) (fun r1 r2 r3 D3 M3 K3 A3 S3 q => ?_)).mono rfl (fun _ _ _ _ _ _ _ q => q) id
  · obtain ⟨q1, rfl, rfl, rfl⟩ := q
    rw [l2, nul]
    exact (kh_null A1).mono rfl (fun _ _ _ _ _ _ _ z => ⟨⟨z.1, q1⟩, z.2⟩) id
  · obtain ⟨⟨q1, q2⟩, rfl, rfl, rfl⟩ := q
    rw [l3, nul]
    exact (kh_null A1).mono rfl (fun _ _ _ _ _ _ _ z => ⟨⟨z.1, q1, q2⟩, z.2⟩) id
  · obtain ⟨⟨rfl, rfl, rfl⟩, rfl, rfl, rfl⟩ := q
    refine ⟨0, 0, 0, Or.inl ⟨rfl, rfl⟩, Or.inl ⟨rfl, rfl⟩, Or.inl ⟨rfl, rfl⟩, by rw [hgt0]; omega, fun D4 M4 A4 S4 nw e => ⟨⟨rfl, rfl, ?_, S4.sn hx A3⟩, e⟩⟩
    rw [hgt0] at nw; exact nw
/-- a continuous variable: the unknown -/
theorem k_svU (hx : NdS2 x0 l X H) (e : EnS x0 l X Kf V s D M K) (hV : V ≤ 96) (hk : k < Kf) (ha : a = (pl D 106).getD k 0) (nb : 1 ≤ n ∧ n < N) (hop : (mI M 3400 a, tA s 121 n) ∈ vrF) (hv : v < V ∧ mI M 3401 a = nI v ∧ tA s 122 n = nI v) (h0 : tA s 94 v = 0) (hd : l = 134 → tA s 121 n = 3 → ∀ u x, LfU s v u x → ∃ d, d < 180 ∧ tA s 189 u = nI d) : OKH x0 l X D M K (KJ_X0_solvedEx_32 cf a M) (PS s (h + 1) n) (fun D' M' K' a' => SxR D' M' s l V K' N (h + 1) 0 a' n ∧ So M M' 137) E := by
  obtain ⟨A, r69, ⟨hKf, -⟩, hVl, hva⟩ := e
  obtain ⟨w, x, u, b1, b2, b3, b4, b5, b6⟩ := (hva v hv.1).2 h0
  obtain ⟨xk, xk1, xk2, xk3⟩ := (hva v hv.1).1
  have x0k : mI M 3203 ((pl D 98).getD v 0) = 0 := by rw [xk2, ← xk3]; exact h0
  have ka : mk M a = 18 := by rw [ha]; exact (A.1.2.1 106 (by decide) k (by omega)).1
  have g98 : ∀ v, v < V → K_J2_get 98 (nI v) M = some ((pl D 98).getD v 0, M) ∧ mk M ((pl D 98).getD v 0) = 17 := fun v hv => ⟨ls_get (A.1.1 98 (by decide)).1 (by omega), (A.1.2.1 98 (by decide) v (by omega)).1⟩
  have sg := b5.2.2.2.2
  have u180 := b5.2.2.1
  have fin : ∀ op vl, LfO l V s n op vl x → OKH x0 l X D M K (KJ_X0_solvedEx_179 cf ((pl D 98).getD v 0) x0 op vl M) (PS s (h + 1) n) (fun D' M' K' a' => SxR D' M' s l V K' N (h + 1) 0 a' n ∧ So M M' 137) E := fun op vl lf => by
    rw [lf.ps]
    refine (k_sv179 (x := x) hx A r69 (by omega) ⟨b3, sg⟩).mono rfl (fun D' M' K' a' A' S' ek q => ⟨?_, q.2⟩) id
    rcases q.1 with ⟨e1, e2, e3⟩ | ⟨e1, e2, e3, e4⟩
    · rw [e2]
      rw [ifT e1] at ek
      exact SxR.bu (by omega) e3 nb (by rw [← e1]; exact lf)
    · rw [e2]
      rw [ifF (by rw [e1]; decide)] at ek
      exact SxR.bn (by omega) (by omega) e3 nb e4 (by rw [← e1]; exact lf)
  have xx : mR M 69 1 ≤ 1099511627775 ∧ 135 ≤ 1099511627775 := by
    rw [r69]
    rcases hx with ⟨rfl, -⟩ | ⟨rfl, -⟩ <;> decide
  unfold KJ_X0_solvedEx_32
  rw [ifT ka, hv.2.1, (g98 v hv.1).1, ob_some, ifT (Or.inr (g98 v hv.1).2), ifT (g98 v hv.1).2, ifT x0k]
  unfold KJ_X0_solvedEx_57
  rw [ifF (show ¬ (1 : Int32) = 0 by decide), ifT ka, hv.2.1, (g98 v hv.1).1, ob_some, ifT (Or.inr (g98 v hv.1).2), ifT (g98 v hv.1).2, b2, (g98 w b1).1, ob_some, ifT (Or.inr (g98 w b1).2), ifT (g98 w b1).2, b4, nm_eq, ifT ka]
  have iu : inb (nI u) 180 := inb_nI' u180 (by decide)
  have xu : ix (nI u) = u := ix_nI (by omega)
  simp only [List.mem_cons, Prod.mk.injEq, List.not_mem_nil, or_false] at hop
  rcases hop with ⟨o1, o2⟩ | ⟨o1, o2⟩ | ⟨o1, o2⟩
  · rw [o1, ifF (by decide)]
    unfold KJ_X0_solvedEx_120 KJ_X0_solvedEx_121
    rw [ifT ka, o1, ifF (by decide), ifT rfl]
    unfold KJ_X0_solvedEx_153 KJ_X0_solvedEx_177
    rw [ifT ka, o1, ifF (by decide), r69]
    exact fin 17 (nI u) (Or.inl ⟨o2, v, u, ⟨hv.2.2, hv.1⟩, b5, rfl, rfl⟩)
  · rw [o1, ifT rfl, ifT xx, r69]
    rcases hx with ⟨rfl, rfl, -⟩ | ⟨rfl, rfl, -⟩
    · obtain ⟨d, d1, d2⟩ := hd rfl o2 u x b5
      rw [ifF (by decide)]
      unfold KJ_X0_solvedEx_120 KJ_X0_solvedEx_121
      rw [ifT ka, o1, ifF (by decide), ifT rfl]
      unfold KJ_X0_solvedEx_153
      rw [ifT ka, o1, ifT rfl, ifT rfl, ifT iu, xu, r69, b6, d2]
      exact fin 17 (nI d) (Or.inr (Or.inl ⟨o2, v, u, ⟨hv.2.2, hv.1⟩, b5, Or.inl ⟨rfl, rfl, d, d1, d2, rfl⟩⟩))
    · rw [ifT rfl]
      unfold KJ_X0_solvedEx_121
      rw [ifT ka, o1, ifF (by decide), ifF (by decide)]
      unfold KJ_X0_solvedEx_153 KJ_X0_solvedEx_177
      rw [ifT ka, o1, ifT rfl, ifF (by decide), r69]
      exact fin 19 (nI u) (Or.inr (Or.inl ⟨o2, v, u, ⟨hv.2.2, hv.1⟩, b5, Or.inr ⟨by decide, rfl, rfl⟩⟩))
  · rw [o1, ifF (by decide)]
    unfold KJ_X0_solvedEx_120 KJ_X0_solvedEx_121
    rw [ifT ka, o1, ifT rfl]
    unfold KJ_X0_solvedEx_153 KJ_X0_solvedEx_177
    rw [ifT ka, o1, ifF (by decide), r69]
    exact fin 18 (nI u) (Or.inr (Or.inr (Or.inl ⟨o2, v, u, ⟨hv.2.2, hv.1⟩, b5, rfl, rfl⟩)))
end SOLVED
