/-! Layer B: where the nodes lie that hang on a flat node, on the twin's side -/
set_option maxRecDepth 100000
abbrev kd2 : List Int32 := [7, 10, 11, 12, 13, 23, 5, 6, 8, 9, 14, 15, 21, 22, 16]
abbrev kd3 : List Int32 := [5, 6, 8, 9, 14, 15, 21, 22, 16, 20]
abbrev kd4 : List Int32 := [16, 20]
/-- what hangs on node n (itself among it) lies in the z places that end with it, each part behind the one before; at most h high -/
def SzR (σ : TS) (N : Nat) : Nat → Nat → Nat → Prop
  | 0, _, _ => False
  | h + 1, n, z => n < N ∧ ∃ z1 z2 z3, 1 + z1 + z2 + z3 ≤ z ∧ (tA σ 121 n ∈ kd2 → ∃ x, tA σ 122 n = nI x ∧ SzR σ N h x z1 ∧ x < n ∧ n + z1 ≤ z + x) ∧ (tA σ 121 n ∈ kd3 → ∃ x, tA σ 123 n = nI x ∧ SzR σ N h x z2 ∧ (x < n ∧ n + z2 ≤ z + x) ∧ (tA σ 121 n ∈ kd2 → ∃ y, tA σ 122 n = nI y ∧ y < n ∧ y + z2 ≤ x)) ∧ (tA σ 121 n ∈ kd4 → ∃ x, tA σ 124 n = nI x ∧ SzR σ N h x z3 ∧ (x < n ∧ n + z3 ≤ z + x) ∧ ∃ y, tA σ 123 n = nI y ∧ y < n ∧ y + z3 ≤ x)
/-- so it is with all nodes -/
def NdA (σ : TS) (N : Nat) : Prop := ∀ n, 1 ≤ n → n < N → (∃ z, SzR σ N 100 n z ∧ z ≤ n) ∧ (tA σ 121 n = 0 → 0 ≤ tA σ 122 n)
/-- nodes below N stay -/
def Nd4 (σ σ' : TS) (N : Nat) : Prop := ∀ f, f ∈ [121, 122, 123, 124] → ∀ n, n < N → tA σ' f n = tA σ f n
/-- node m stands in the tree of n -/
def OcT (σ : TS) (N : Nat) : Nat → Nat → Nat → Prop
  | 0, _, _ => False
  | h + 1, n, m => (n < N ∧ n < 100000) ∧ (m = n ∨ (tA σ 121 n ∈ kd2 ∧ ∃ x, tA σ 122 n = nI x ∧ OcT σ N h x m) ∨ (tA σ 121 n ∈ kd3 ∧ ∃ x, tA σ 123 n = nI x ∧ OcT σ N h x m) ∨ (tA σ 121 n ∈ kd4 ∧ ∃ x, tA σ 124 n = nI x ∧ OcT σ N h x m))
section SIZE
variable {σ σ' : TS} {N N' h h' n z z' z1 z2 z3 x y w m : Nat} {S : List Nat} {op : Int32}
theorem SzR.lt (q : SzR σ N h n z) : n < N ∧ 1 ≤ z := by
  cases h with
  | zero => exact q.elim
  | succ h =>
    obtain ⟨q0, z1, z2, z3, q1, -⟩ := q
    exact ⟨q0, by omega⟩
theorem SzR.mv (g : Nd4 σ σ' N) (hN : N ≤ N') : ∀ (h h' n z z' : Nat), h ≤ h' → z ≤ z' → SzR σ N h n z → SzR σ' N' h' n z'
  | 0, _, _, _, _, _, _, q => q.elim
  | h + 1, 0, _, _, _, hh, _, _ => absurd hh (Nat.not_succ_le_zero h)
  | h + 1, h' + 1, n, z, z', hh, hz, q => by
    obtain ⟨q0, z1, z2, z3, q1, q2, q3, q4⟩ := q
    have ih : ∀ x z, SzR σ N h x z → SzR σ' N' h' x z := fun x z q => SzR.mv g hN h h' x z z (Nat.le_of_succ_le_succ hh) (Nat.le_refl z) q
    refine ⟨by omega, z1, z2, z3, by omega, fun u => ?_, fun u => ?_, fun u => ?_⟩
    · rw [g 121 (by decide) n q0] at u
      obtain ⟨x, x1, x2, x3, x4⟩ := q2 u
      exact ⟨x, by rw [g 122 (by decide) n q0]; exact x1, ih x z1 x2, x3, by omega⟩
    · rw [g 121 (by decide) n q0] at u
      obtain ⟨x, x1, x2, x3, x4⟩ := q3 u
      rw [g 121 (by decide) n q0, g 122 (by decide) n q0]
      exact ⟨x, by rw [g 123 (by decide) n q0]; exact x1, ih x z2 x2, ⟨x3.1, by omega⟩, x4⟩
    · rw [g 121 (by decide) n q0] at u
      obtain ⟨x, x1, x2, x3, x4⟩ := q4 u
      rw [g 123 (by decide) n q0]
      exact ⟨x, by rw [g 124 (by decide) n q0]; exact x1, ih x z3 x2, ⟨x3.1, by omega⟩, x4⟩
theorem Nd4.rf : Nd4 σ σ N := fun _ _ _ _ => rfl
theorem Nd4.ft (f : Ft S σ σ') (hS : [121, 122, 123, 124].all (fun k => !S.contains k) = true) : Nd4 σ σ' N := fun k hk n _ => (f k (by simpa using List.all_eq_true.mp hS k hk)).2.2.1 n
theorem NdA.mv (h : NdA σ N) (g : Nd4 σ σ' N) : NdA σ' N := fun n h1 h2 => by
  obtain ⟨⟨z, z1, z2⟩, zk⟩ := h n h1 h2
  exact ⟨⟨z, SzR.mv g (Nat.le_refl _) _ _ _ _ _ (Nat.le_refl _) (Nat.le_refl _) z1, z2⟩, by rw [g 121 (by decide) n h2, g 122 (by decide) n h2]; exact zk⟩
theorem NdA.ft (h : NdA σ N) (f : Ft S σ σ') (hS : [121, 122, 123, 124].all (fun k => !S.contains k) = true) : NdA σ' N := h.mv (Nd4.ft f hS)
/-- one more -/
theorem NdA.add (h : NdA σ N) (g : Nd4 σ σ' N) (hz : ∃ z, SzR σ' (N + 1) 100 N z ∧ z ≤ N) (hk : tA σ' 121 N = 0 → 0 ≤ tA σ' 122 N) : NdA σ' (N + 1) := fun n h1 h2 => by
  by_cases q : n = N
  · rw [q]; exact ⟨hz, hk⟩
  · obtain ⟨⟨z, z1, z2⟩, zk⟩ := h n h1 (by omega)
    exact ⟨⟨z, SzR.mv g (Nat.le_succ N) _ _ _ _ _ (Nat.le_refl _) (Nat.le_refl _) z1, z2⟩, by rw [g 121 (by decide) n (by omega), g 122 (by decide) n (by omega)]; exact zk⟩
theorem SzR.lf (hn : n < N) (h2 : tA σ 121 n ∉ kd2) (h3 : tA σ 121 n ∉ kd3) (h4 : tA σ 121 n ∉ kd4) : SzR σ N (h + 1) n 1 := ⟨hn, 0, 0, 0, by omega, fun u => absurd u h2, fun u => absurd u h3, fun u => absurd u h4⟩
theorem SzR.un (hn : n < N) (h3 : tA σ 121 n ∉ kd3) (h4 : tA σ 121 n ∉ kd4) (e : tA σ 122 n = nI x) (q : SzR σ N h x z1) (hz : 1 + z1 ≤ z ∧ x < n ∧ n + z1 ≤ z + x) : SzR σ N (h + 1) n z := ⟨hn, z1, 0, 0, by omega, fun _ => ⟨x, e, q, hz.2⟩, fun u => absurd u h3, fun u => absurd u h4⟩
theorem SzR.bi (hn : n < N) (h4 : tA σ 121 n ∉ kd4) (e : tA σ 122 n = nI x) (q : SzR σ N h x z1) (e2 : tA σ 123 n = nI y) (q2 : SzR σ N h y z2) (hz : 1 + z1 + z2 ≤ z ∧ (x < n ∧ n + z1 ≤ z + x) ∧ (y < n ∧ n + z2 ≤ z + y) ∧ x + z2 ≤ y) : SzR σ N (h + 1) n z := ⟨hn, z1, z2, 0, by omega, fun _ => ⟨x, e, q, hz.2.1⟩, fun _ => ⟨y, e2, q2, hz.2.2.1, fun _ => ⟨x, e, hz.2.1.1, hz.2.2.2⟩⟩, fun u => absurd u h4⟩
theorem SzR.rl (hn : n < N) (h2 : tA σ 121 n ∉ kd2) (e : tA σ 123 n = nI x) (q : SzR σ N h x z1) (e2 : tA σ 124 n = nI y) (q2 : SzR σ N h y z2) (hz : 1 + z1 + z2 ≤ z ∧ (x < n ∧ n + z1 ≤ z + x) ∧ (y < n ∧ n + z2 ≤ z + y) ∧ x + z2 ≤ y) : SzR σ N (h + 1) n z := ⟨hn, 0, z1, z2, by omega, fun u => absurd u h2, fun _ => ⟨x, e, q, hz.2.1, fun u => absurd u h2⟩, fun _ => ⟨y, e2, q2, hz.2.2.1, x, e, hz.2.1.1, hz.2.2.2⟩⟩
theorem SzR.if_ (hn : n < N) (e : tA σ 122 n = nI x) (q : SzR σ N h x z1) (e2 : tA σ 123 n = nI y) (q2 : SzR σ N h y z2) (e3 : tA σ 124 n = nI w) (q3 : SzR σ N h w z3) (hz : 1 + z1 + z2 + z3 ≤ z ∧ (x < n ∧ n + z1 ≤ z + x) ∧ (y < n ∧ n + z2 ≤ z + y) ∧ (w < n ∧ n + z3 ≤ z + w) ∧ x + z2 ≤ y ∧ y + z3 ≤ w) : SzR σ N (h + 1) n z := ⟨hn, z1, z2, z3, hz.1, fun _ => ⟨x, e, q, hz.2.1⟩, fun _ => ⟨y, e2, q2, hz.2.2.1, fun _ => ⟨x, e, hz.2.1.1, hz.2.2.2.2.1⟩⟩, fun _ => ⟨w, e3, q3, hz.2.2.2.1, y, e2, hz.2.2.1.1, hz.2.2.2.2.2⟩⟩
theorem OcT.mv (g : Nd4 σ σ' N) (hN : N ≤ N') : ∀ (h h' n m : Nat), h ≤ h' → OcT σ N h n m → OcT σ' N' h' n m
  | 0, _, _, _, _, q => q.elim
  | h + 1, 0, _, _, hh, _ => absurd hh (Nat.not_succ_le_zero h)
  | h + 1, h' + 1, n, m, hh, q => by
    obtain ⟨q0, q⟩ := q
    have ih : ∀ x, OcT σ N h x m → OcT σ' N' h' x m := fun x q => OcT.mv g hN h h' x m (Nat.le_of_succ_le_succ hh) q
    refine ⟨⟨by omega, q0.2⟩, ?_⟩
    rw [g 121 (by decide) n q0.1, g 122 (by decide) n q0.1, g 123 (by decide) n q0.1, g 124 (by decide) n q0.1]
    rcases q with q | ⟨q, x, x1, x2⟩ | ⟨q, x, x1, x2⟩ | ⟨q, x, x1, x2⟩
    · exact Or.inl q
    · exact Or.inr (Or.inl ⟨q, x, x1, ih x x2⟩)
    · exact Or.inr (Or.inr (Or.inl ⟨q, x, x1, ih x x2⟩))
    · exact Or.inr (Or.inr (Or.inr ⟨q, x, x1, ih x x2⟩))
theorem OcT.lt (q : OcT σ N h n m) : n < N ∧ n < 100000 := by
  cases h with
  | zero => exact q.elim
  | succ h => exact q.1
theorem nIq {a b : Nat} (h : nI a = nI b) (ha : a < 100000) (hb : b < 100000) : a = b := (bI_eq (by omega) (by omega)).mp h
/-- where it lies -/
theorem OcT.iv : ∀ (h h' n z m : Nat), SzR σ N h' n z → OcT σ N h n m → m ≤ n ∧ n < m + z
  | 0, _, _, _, _, _, q => q.elim
  | _ + 1, 0, _, _, _, s, _ => s.elim
  | h + 1, h' + 1, n, z, m, s, q => by
    obtain ⟨s0, z1, z2, z3, s1, s2, s3, s4⟩ := s
    obtain ⟨n7, q⟩ := q
    rcases q with rfl | ⟨q, x, x1, x2⟩ | ⟨q, x, x1, x2⟩ | ⟨q, x, x1, x2⟩
    · exact ⟨Nat.le_refl _, by omega⟩
    · obtain ⟨y, y1, y2, y3, y4⟩ := s2 q
      have : y = x := nIq (y1.symm.trans x1) (by omega) (by have := x2.lt; omega)
      subst this
      have := OcT.iv h h' _ _ m y2 x2
      omega
    · obtain ⟨y, y1, y2, y3, y4⟩ := s3 q
      have : y = x := nIq (y1.symm.trans x1) (by omega) (by have := x2.lt; omega)
      subst this
      have := OcT.iv h h' _ _ m y2 x2
      omega
    · obtain ⟨y, y1, y2, y3, y4⟩ := s4 q
      have : y = x := nIq (y1.symm.trans x1) (by omega) (by have := x2.lt; omega)
      subst this
      have := OcT.iv h h' _ _ m y2 x2
      omega
/-- and nowhere else in a later state -/
theorem OcT.bk (g : Nd4 σ σ' N) : ∀ (h h' n z m : Nat), SzR σ N h' n z → OcT σ' N' h n m → OcT σ N h n m
  | 0, _, _, _, _, _, q => q.elim
  | _ + 1, 0, _, _, _, s, _ => s.elim
  | h + 1, h' + 1, n, z, m, s, q => by
    obtain ⟨s0, z1, z2, z3, s1, s2, s3, s4⟩ := s
    obtain ⟨n7, q⟩ := q
    rw [g 121 (by decide) n s0, g 122 (by decide) n s0, g 123 (by decide) n s0, g 124 (by decide) n s0] at q
    refine ⟨⟨s0, n7.2⟩, ?_⟩
    rcases q with q | ⟨q, x, x1, x2⟩ | ⟨q, x, x1, x2⟩ | ⟨q, x, x1, x2⟩
    · exact Or.inl q
    · obtain ⟨y, y1, y2, y3, y4⟩ := s2 q
      have : y = x := nIq (y1.symm.trans x1) (by omega) (by have := x2.lt; omega)
      subst this
      exact Or.inr (Or.inl ⟨q, _, x1, OcT.bk g h h' _ _ m y2 x2⟩)
    · obtain ⟨y, y1, y2, y3, y4⟩ := s3 q
      have : y = x := nIq (y1.symm.trans x1) (by omega) (by have := x2.lt; omega)
      subst this
      exact Or.inr (Or.inr (Or.inl ⟨q, _, x1, OcT.bk g h h' _ _ m y2 x2⟩))
    · obtain ⟨y, y1, y2, y3, y4⟩ := s4 q
      have : y = x := nIq (y1.symm.trans x1) (by omega) (by have := x2.lt; omega)
      subst this
      exact Or.inr (Or.inr (Or.inr ⟨q, _, x1, OcT.bk g h h' _ _ m y2 x2⟩))
/-- the parts of a node have nothing in common -/
theorem NdA.s23 (A : NdA σ N) (h7 : N ≤ 70000) (hn : 1 ≤ n ∧ n < N) (k2 : tA σ 121 n ∈ kd2) (k3 : tA σ 121 n ∈ kd3) (ex : tA σ 122 n = nI x) (ey : tA σ 123 n = nI y) (ox : OcT σ N h x m) (oy : OcT σ N h' y m) : False := by
  obtain ⟨⟨z, s, -⟩, -⟩ := A n hn.1 hn.2
  obtain ⟨s0, z1, z2, z3, s1, s2, s3, s4⟩ := (s : SzR σ N (99 + 1) n z)
  obtain ⟨x', a1, a2, a3, a4⟩ := s2 k2
  obtain ⟨y', b1, b2, b3, b4⟩ := s3 k3
  obtain ⟨x2, c1, c2, c3⟩ := b4 k2
  have e1 : x' = x := nIq (a1.symm.trans ex) (by omega) (by have := ox.lt; omega)
  have e2 : x2 = x := nIq (c1.symm.trans ex) (by omega) (by have := ox.lt; omega)
  have e3 : y' = y := nIq (b1.symm.trans ey) (by omega) (by have := oy.lt; omega)
  subst e1; subst e2; subst e3
  have := OcT.iv _ _ _ _ _ a2 ox
  have := OcT.iv _ _ _ _ _ b2 oy
  omega
theorem NdA.s34 (A : NdA σ N) (h7 : N ≤ 70000) (hn : 1 ≤ n ∧ n < N) (k3 : tA σ 121 n ∈ kd3) (k4 : tA σ 121 n ∈ kd4) (ey : tA σ 123 n = nI y) (ew : tA σ 124 n = nI w) (oy : OcT σ N h y m) (ow_ : OcT σ N h' w m) : False := by
  obtain ⟨⟨z, s, -⟩, -⟩ := A n hn.1 hn.2
  obtain ⟨s0, z1, z2, z3, s1, s2, s3, s4⟩ := (s : SzR σ N (99 + 1) n z)
  obtain ⟨y', b1, b2, b3, b4⟩ := s3 k3
  obtain ⟨w', d1, d2, d3, y2, c1, c2, c3⟩ := s4 k4
  have e1 : w' = w := nIq (d1.symm.trans ew) (by omega) (by have := ow_.lt; omega)
  have e2 : y2 = y := nIq (c1.symm.trans ey) (by omega) (by have := oy.lt; omega)
  have e3 : y' = y := nIq (b1.symm.trans ey) (by omega) (by have := oy.lt; omega)
  subst e1; subst e2; subst e3
  have := OcT.iv _ _ _ _ _ b2 oy
  have := OcT.iv _ _ _ _ _ d2 ow_
  omega
theorem NdA.s24 (A : NdA σ N) (h7 : N ≤ 70000) (hn : 1 ≤ n ∧ n < N) (k2 : tA σ 121 n ∈ kd2) (k3 : tA σ 121 n ∈ kd3) (k4 : tA σ 121 n ∈ kd4) (ex : tA σ 122 n = nI x) (ew : tA σ 124 n = nI w) (ox : OcT σ N h x m) (ow_ : OcT σ N h' w m) : False := by
  obtain ⟨⟨z, s, -⟩, -⟩ := A n hn.1 hn.2
  obtain ⟨s0, z1, z2, z3, s1, s2, s3, s4⟩ := (s : SzR σ N (99 + 1) n z)
  obtain ⟨x', a1, a2, a3, a4⟩ := s2 k2
  obtain ⟨y', b1, b2, b3, b4⟩ := s3 k3
  obtain ⟨x2, f1, f2, f3⟩ := b4 k2
  obtain ⟨w', d1, d2, d3, y2, c1, c2, c3⟩ := s4 k4
  have e1 : w' = w := nIq (d1.symm.trans ew) (by omega) (by have := ow_.lt; omega)
  have e2 : x' = x := nIq (a1.symm.trans ex) (by omega) (by have := ox.lt; omega)
  have e3 : x2 = x := nIq (f1.symm.trans ex) (by omega) (by have := ox.lt; omega)
  have e4 : y2 = y' := nIq (c1.symm.trans b1) (by omega) (by omega)
  subst e1; subst e2; subst e3; subst e4
  have := OcT.iv _ _ _ _ _ a2 ox
  have := OcT.iv _ _ _ _ _ d2 ow_
  have := b2.lt
  omega
/-- a part lies ahead -/
theorem NdA.up3 (A : NdA σ N) (h7 : N ≤ 70000) (hn : 1 ≤ n ∧ n < N) (k3 : tA σ 121 n ∈ kd3) (ey : tA σ 123 n = nI y) (oy : OcT σ N h y m) : m < n := by
  obtain ⟨⟨z, s, -⟩, -⟩ := A n hn.1 hn.2
  obtain ⟨s0, z1, z2, z3, s1, s2, s3, s4⟩ := (s : SzR σ N (99 + 1) n z)
  obtain ⟨y', b1, b2, b3, b4⟩ := s3 k3
  have e3 : y' = y := nIq (b1.symm.trans ey) (by omega) (by have := oy.lt; omega)
  subst e3
  have := OcT.iv _ _ _ _ _ b2 oy
  omega
theorem NdA.up4 (A : NdA σ N) (h7 : N ≤ 70000) (hn : 1 ≤ n ∧ n < N) (k4 : tA σ 121 n ∈ kd4) (ew : tA σ 124 n = nI w) (ow_ : OcT σ N h w m) : m < n := by
  obtain ⟨⟨z, s, -⟩, -⟩ := A n hn.1 hn.2
  obtain ⟨s0, z1, z2, z3, s1, s2, s3, s4⟩ := (s : SzR σ N (99 + 1) n z)
  obtain ⟨w', d1, d2, d3, -⟩ := s4 k4
  have e1 : w' = w := nIq (d1.symm.trans ew) (by omega) (by have := ow_.lt; omega)
  subst e1
  have := OcT.iv _ _ _ _ _ d2 ow_
  omega
end SIZE
