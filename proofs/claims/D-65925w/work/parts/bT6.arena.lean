/-! Layer B: solved trees: the component's nodes; the relation of both sides -/
set_option maxRecDepth 100000
/-- a set of nodes with K in use -/
def ArS (x0 l X : Nat) (D : FQ) (M : CM) (K : Nat) : Prop := PoW D M ∧ FXb M ∧ 167 ≤ mn M ∧ (mI M 604 x0 = nI K ∧ K ≤ (pl D l).length ∧ K ≤ X) ∧ rmN D M + 1 ≤ 601024 ∧ rmS D M + 60100 ≤ 7293034
def ArT (x0 l K K' t : Nat) : Prop := t = x0 ∨ t = l ∨ (tg l K ≤ t ∧ t < tg l K')
/-- nodes are made, nothing else -/
def StA (x0 l : Nat) (D : FQ) (M : CM) (K : Nat) (D' : FQ) (M' : CM) (K' : Nat) : Prop := K ≤ K' ∧ Dx D D' M ∧ (∀ i, i ≠ l → pl D' i = pl D i) ∧ Fq D (ArT x0 l K K') M M' ∧ ((∀ g, g ≠ 604 → mI M' g x0 = mI M g x0) ∧ ∀ g, mR M' g x0 = mR M g x0) ∧ rmN D' M' ≤ rmN D M ∧ rmS D' M' ≤ rmS D M
/-- nodes below K stay -/
def SnK (D : FQ) (M : CM) (D' : FQ) (M' : CM) (l K : Nat) : Prop := ∀ k, k < K → (pl D' l).getD k 0 = (pl D l).getD k 0 ∧ (∀ f, mI M' f ((pl D l).getD k 0) = mI M f ((pl D l).getD k 0)) ∧ ∀ f, mR M' f ((pl D l).getD k 0) = mR M f ((pl D l).getD k 0)
/-- the sets of solved nodes -/
abbrev NdS2 (x0 l X H : Nat) : Prop := (x0 = 133 ∧ l = 134 ∧ X = 40000 ∧ H = 200) ∨ (x0 = 135 ∧ l = 136 ∧ X = 30000 ∧ H = 300)
section ARENA
variable {x0 l X H K K' K2 : Nat} {D D' D2 : FQ} {M M' M2 : CM} {c1 c2 c3 t1 t2 t3 k o : Nat} {op vl : Int32}
theorem NdS2.nl (h : NdS2 x0 l X H) : NdL x0 l X H := by
  rcases h with h | h
  · exact Or.inr (Or.inr (Or.inl h))
  · exact Or.inr (Or.inr (Or.inr h))
theorem NdS2.nu (h : NdS2 x0 l X H) : l ∈ flL ∧ 132 < x0 ∧ x0 < 136 ∧ 133 < l ∧ l < 137 ∧ x0 ≠ l ∧ X ≤ 40000 ∧ H ≤ 300 ∧ flX l = X := by
  rcases h with ⟨rfl, rfl, rfl, rfl⟩ | ⟨rfl, rfl, rfl, rfl⟩ <;> decide
theorem StA.rf : StA x0 l D M K D M K := ⟨Nat.le_refl _, Dx.rf D M, fun _ _ => rfl, Fq.rf, ⟨fun _ _ => rfl, fun _ => rfl⟩, Nat.le_refl _, Nat.le_refl _⟩
theorem ArT.up {t : Nat} (h : ArT x0 l K K' t) (hk : K2 ≤ K) (hk' : K' ≤ k) : ArT x0 l K2 k t := by
  rcases h with h | h | ⟨h1, h2⟩
  · exact Or.inl h
  · exact Or.inr (Or.inl h)
  · exact Or.inr (Or.inr ⟨by unfold tg at *; omega, by unfold tg at *; omega⟩)
theorem StA.tr (h : StA x0 l D M K D' M' K') (g : StA x0 l D' M' K' D2 M2 K2) : StA x0 l D M K D2 M2 K2 :=
  ⟨Nat.le_trans h.1 g.1, h.2.1.tr g.2.1 h.2.2.2.1.1, fun i hi => (g.2.2.1 i hi).trans (h.2.2.1 i hi), (h.2.2.2.1.mono (fun t z => z.up (Nat.le_refl _) g.1)).tr (g.2.2.2.1.mono (fun t z => z.up h.1 (Nat.le_refl _))) h.2.1, ⟨fun g' hg => (g.2.2.2.2.1.1 g' hg).trans (h.2.2.2.2.1.1 g' hg), fun g' => (g.2.2.2.2.1.2 g').trans (h.2.2.2.2.1.2 g')⟩, Nat.le_trans g.2.2.2.2.2.1 h.2.2.2.2.2.1, Nat.le_trans g.2.2.2.2.2.2 h.2.2.2.2.2.2⟩
/-- an object that isn't of the set stays -/
theorem StA.so (h : StA x0 l D M K D' M' K') (ho : o < mn M) (hn : ¬ ArT x0 l K K' (tgof D o)) : So M M' o := Fz.so h.2.2.2.1 ho hn
theorem StA.s1 (h : StA x0 l D M K D' M' K') (hx : NdS2 x0 l X H) (hn : 167 ≤ mn M) (ho : o < 133) : So M M' o := h.so (by omega) (fun z => by
  rw [tgo_s (by omega)] at z
  have := hx.nu
  unfold ArT tg at z; omega)
theorem StA.sl (h : StA x0 l D M K D' M' K') (hx : NdS2 x0 l X H) (A : PoW D M) {l' : Nat} (hl : l' ∈ flL) (hne : l' ≠ l) (hk : k < (pl D l').length) (hK : K' ≤ 40000) : So M M' ((pl D l').getD k 0) := by
  obtain ⟨a1, a2, a3⟩ := A.2.1 l' hl k hk
  refine h.so a2.2 (fun z => ?_)
  rw [tgo_d a2.1, a3] at z
  have mx : ∀ l, l ∈ flL → flX l ≤ 40000 ∧ 98 ≤ l := by decide
  have h1 := (A.1 l' (flL_A l' hl)).2.2
  have h2 := mx l' hl
  have := hx.nu
  have K4 : K ≤ K' := h.1
  unfold ArT tg at z
  rcases z with z | z | z
  · omega
  · omega
  · rcases Nat.lt_or_gt_of_ne hne with q | q <;> omega
theorem StA.sn (h : StA x0 l D M K D' M' K') (hx : NdS2 x0 l X H) (A : ArS x0 l X D M K) : SnK D M D' M' l K := fun k hk => by
  have nu := hx.nu
  have kD : k < (pl D l).length := by have := A.2.2.2.1.2.1; omega
  obtain ⟨a1, a2, a3⟩ := A.1.2.1 l nu.1 k kD
  have s : So M M' ((pl D l).getD k 0) := h.so a2.2 (fun z => by
    rw [tgo_d a2.1, a3] at z
    have := A.2.2.2.1.2.2
    unfold ArT tg at z; omega)
  exact ⟨(h.2.1.1 l k kD).2, fun f => s.i f, fun f => s.r f⟩
theorem SnK.rf : SnK D M D M l K := fun _ _ => ⟨rfl, fun _ => rfl, fun _ => rfl⟩
theorem SnK.tr (h : SnK D M D' M' l K) (g : SnK D' M' D2 M2 l K') (hk : K ≤ K') : SnK D M D2 M2 l K := fun k hk' => by
  obtain ⟨a1, a2, a3⟩ := h k hk'
  obtain ⟨b1, b2, b3⟩ := g k (by omega)
  rw [a1] at b1 b2 b3
  exact ⟨b1, fun f => (b2 f).trans (a2 f), fun f => (b3 f).trans (a3 f)⟩
theorem ArS.k18 (A : ArS x0 l X D M K) (hx : NdS2 x0 l X H) (hk : k < K) : mk M ((pl D l).getD k 0) = 18 ∧ (pl D l).getD k 0 ≠ 0 := by
  obtain ⟨a1, a2, a3⟩ := A.1.2.1 l hx.nu.1 k (by have := A.2.2.2.1.2.1; omega)
  have : flK l = 18 := by rcases hx with ⟨-, rfl, -, -⟩ | ⟨-, rfl, -, -⟩ <;> rfl
  exact ⟨a1.trans this, by omega⟩
/-- frames of what is fixed -/
theorem FXb.st (h : FXb M) (hn : 167 ≤ mn M) (hx : NdS2 x0 l X H) (F : Fq D (ArT x0 l K K') M M') (h5 : (∀ g, g ≠ 604 → mI M' g x0 = mI M g x0) ∧ ∀ g, mR M' g x0 = mR M g x0) : FXb M' := by
  have s0 : ∀ o, o < 167 → o ≠ x0 → o ≠ l → So M M' o := fun o h1 h2 h3 => Fz.so F (by omega) (fun z => by
    rw [tgo_s h1] at z
    have := hx.nu
    unfold ArT tg at z; omega)
  refine h.mv hn F (fun q hq => ?_) (fun q hq => ?_)
  · by_cases y : q.2.1 = x0
    · rw [y]; exact h5.2 q.1
    · have hq' := fixO q hq
      by_cases y2 : q.2.1 = l
      · exfalso
        have h1 : ∀ q, q ∈ bfR → q.2.1 ∉ flA := by decide
        exact h1 q hq (by rw [y2]; exact flL_A l hx.nu.1)
      · exact (s0 _ hq'.2 y y2).r _
  · by_cases y : q.2.1 = x0
    · rw [y]
      have h1 : ∀ q, q ∈ bfI → q.1 ≠ 604 := by decide
      exact h5.1 q.1 (h1 q hq)
    · have hq' := fixI q hq
      by_cases y2 : q.2.1 = l
      · exfalso
        have h1 : ∀ q, q ∈ bfI → q.2.1 ∉ flA := by decide
        exact h1 q hq (by rw [y2]; exact flL_A l hx.nu.1)
      · exact (s0 _ hq'.2 y y2).i _
/-- a new node -/
def NwS (l : Nat) (D : FQ) (M : CM) (K : Nat) (op vl mo he : Int32) (c1 c2 c3 t : Nat) : Prop := mI M 3400 ((pl D l).getD K 0) = op ∧ mI M 3401 ((pl D l).getD K 0) = vl ∧ mI M 3402 ((pl D l).getD K 0) = mo ∧ mI M 3403 ((pl D l).getD K 0) = he ∧ mI M 3404 ((pl D l).getD K 0) = nI t ∧ mR M 3405 ((pl D l).getD K 0) = c1 ∧ mR M 3406 ((pl D l).getD K 0) = c2 ∧ mR M 3407 ((pl D l).getD K 0) = c3
/-- a fault of the set -/
def FlA (x0 l X : Nat) (D : FQ) (M : CM) (K w : Nat) (M' : CM) : Prop := ∃ D1 M1 K1, ArS x0 l X D1 M1 K1 ∧ StA x0 l D M K D1 M1 K1 ∧ w = mn M1 ∧ M' = wM M1 52 (mI M 605 x0)
theorem FlA.pre {w : Nat} (h : FlA x0 l X D' M' K' w M2) (g : StA x0 l D M K D' M' K') : FlA x0 l X D M K w M2 := by
  obtain ⟨D1, M1, K1, a, b, c, d⟩ := h
  exact ⟨D1, M1, K1, a, g.tr b, c, by rw [d, g.2.2.2.2.1.1 605 (by decide)]⟩
theorem k_mkS (hx : NdS2 x0 l X H) (A : ArS x0 l X D M K) (g1 : ChO D M l K c1 t1) (g2 : ChO D M l K c2 t2) (g3 : ChO D M l K c3 t3) :
    (K < X → hgt t1 t2 t3 ≤ H → ∃ D' M', K_X3_make x0 op vl c1 c2 c3 M = some (.inl ((pl D' l).getD K 0), M') ∧ ArS x0 l X D' M' (K + 1) ∧ StA x0 l D M K D' M' (K + 1) ∧ NwS l D' M' K op vl 0 (-1) c1 c2 c3 (hgt t1 t2 t3)) ∧
    (K < X ∧ hgt t1 t2 t3 ≤ H ∨ ∃ w M', K_X3_make x0 op vl c1 c2 c3 M = some (.inr w, M') ∧ FlA x0 l X D M K w M' ∧ (K = X ∨ H < hgt t1 t2 t3)) := by
  have A0 := A
  obtain ⟨hp, fx, hn, ⟨h604, hK, hKX⟩, rN, rS⟩ := A
  have cN : mn M ≤ rmN D M := Nat.le_add_right _ _
  have cS : ms M ≤ rmS D M := Nat.le_add_right _ _
  have i603 : ∀ M2 : CM, FXb M2 → mI M2 603 x0 = 52 := fun M2 f => by
    rcases hx with ⟨rfl, -⟩ | ⟨rfl, -⟩
    · exact f.2.2 (603, 133, 52) (by decide)
    · exact f.2.2 (603, 135, 52) (by decide)
  by_cases q : K = X
  · refine ⟨fun z => by omega, Or.inr ⟨mn M, wM M 52 (mI M 605 x0), ?_, ⟨D, M, K, A0, StA.rf, rfl, rfl⟩, Or.inl q⟩⟩
    rw [k_makeX hx.nl fx (by rw [h604, q]), i603 M fx, k_wrong ⟨by omega, by omega⟩ (by omega), ob_some, ifT (wM_k M 52 _)]
  · obtain ⟨D', M', k1, k2, k3, k4, k5, k6, ⟨k7, k8, k9⟩, k10, k11⟩ := k_make (op := op) (vl := vl) hx.nl hp hn fx h604 ⟨hK, by omega⟩ (by omega) rS g1 g2 g3
    have st : StA x0 l D M K D' M' (K + 1) := ⟨by omega, k4, k5, k6.mono (fun t z => by unfold ArT; unfold tg at *; omega), ⟨k8, k9⟩, k11⟩
    have A' : ArS x0 l X D' M' (K + 1) := ⟨k2, fx.st hn hx st.2.2.2.1 ⟨k8, k9⟩, by have := k6.1; omega, ⟨k7, by omega, by omega⟩, by omega, by omega⟩
    by_cases ht : hgt t1 t2 t3 ≤ H
    · rw [ifT ht] at k1
      exact ⟨fun _ _ => ⟨D', M', k1, A', st, k10⟩, Or.inl ⟨by omega, ht⟩⟩
    · refine ⟨fun _ z => absurd z ht, Or.inr ⟨mn M', wM M' 52 (mI M 605 x0), ?_, ⟨D', M', K + 1, A', st, rfl, rfl⟩, Or.inr (by omega)⟩⟩
      have cN' : mn M' ≤ rmN D' M' := Nat.le_add_right _ _
      have cS' : ms M' ≤ rmS D' M' := Nat.le_add_right _ _
      rw [ifF ht] at k1
      rw [k1, i603 M fx, k_wrong ⟨by omega, by omega⟩ (by have := A'.2.2.1; omega), ob_some, ifT (wM_k M' 52 _)]
end ARENA
