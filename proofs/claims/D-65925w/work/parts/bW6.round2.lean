/-! Layer B: the index: rounds, both sides -/
set_option maxRecDepth 100000
abbrev rdT : List Nat := [0, 1, 121, 122, 123, 124, 125, 126, 127, 131, 134, 141, 142, 143, 180, 187, 188, 189, 190, 191, 194, 195, 197, 199, 200, 201, 202, 203]
def RdS (V E U S K N : Nat) (p : Int32) (D : FQ) (M : CM) (s : TS) : Prop := IdxR V E U S K N D M s ∧ (∀ u, u < U → mA M 122 u = tA s 191 u) ∧ Rg U S (fun u => mA M 122 u) ∧ RgQ U S (fun x => tA s 180 x = 0) (fun u => tA s 191 u) ∧ tI s 205 = nI 0 ∧ mI M 605 133 = p ∧ tI s 204 = p
/-- what holds while the index is lowered: as many highest unknowns as equations without derivative; no two are given one; J: which were looked at -/
def LwI (H E J U S : Nat) (s : TS) : Prop := (hcU s U = H ∧ udc s S = H) ∧ Inj U (fun u => tA s 191 u) ∧ (∀ u x, u < U → x < S → tA s 191 u = nI x → (x < J ∨ E ≤ x) ∧ (tA s 189 u = -1 → tA s 194 x = -1)) ∧ ∀ k, J ≤ k → k < E → tA s 194 k = -1
/-- the one searched for -/
def LwC (E J U : Nat) (s : TS) (e : Nat) : Prop := tA s 194 e = -1 ∧ (e < J ∨ E ≤ e) ∧ ∀ u, u < U → tA s 191 u ≠ nI e
section ROUND2
variable {D D' : FQ} {M M' M1 : CM} {s s' : TS} {V E U U' S S' K N H J mode d e f n u k : Nat} {p x1 y1 : Int32}
theorem sn_of (A : ArS 133 134 40000 D M K) (hI : ∀ f o, o ≠ 1 → mI M' f o = mI M f o) (hR : ∀ f o, mR M' f o = mR M f o) : SnK D M D M' 134 K := fun j hj => ⟨rfl, fun f => hI f _ (by
  have := (A.1.2.1 134 (by decide) j (by have := A.2.2.2.1.2.1; omega)).2.1.1
  omega), fun f => hR f _⟩
/-- a step of marks and gifts -/
theorem IdxR.kf (h : IdxR V E U S K N D M s) (k : KF D [] [] fdA [] M M') (f : Ft fdT s s') : IdxR V E U S K N D M' s' := by
  have A := h.1.1
  exact h.up (A.kf k rfl rfl rfl) ((k.r rfl 1).trans h.1.2) (k.i rfl 1) (sn_of A (fun f o _ => k.i rfl o) (fun f o => k.r rfl o)) (NdX.ft f rfl).nu (h.2.2.1.mv (k.i rfl 1) (f 197 rfl).1 (fun u => ⟨k.ga rfl u, k.ga rfl u, k.ga rfl u⟩) (fun u => ⟨(f 179 rfl).2.2.1 u, (f 187 rfl).2.2.1 u, (f 188 rfl).2.2.1 u, (f 189 rfl).2.2.1 u⟩)) (Nat.le_refl _) (fun o j ho => k.ga (by rcases ho with rfl | rfl | rfl | rfl <;> rfl) j) (fun o j _ => k.gx rfl j) (fun k hk => (f k (by
    have : ∀ k, k ∈ [0, 126, 129, 130, 143, 154] → fdT.contains k = false := by decide
    exact this k hk)).1) (f 203 rfl).2.1 (fun k j hk => (f k (by
    have : ∀ k, k ∈ [141, 142, 180, 194, 195, 202] → fdT.contains k = false := by decide
    exact this k hk)).2.2.1 j)
theorem RdS.try (h : RdS V E U S K N p D M s) : TryR 0 M s S U := by
  obtain ⟨i, g1, g2, -⟩ := h
  have uk := i.2.2.1
  exact ⟨⟨uk.1.1, uk.1.2.1, uk.1.2.2, i.2.1.2.2.1⟩, fun e u he hu => i.rw_ he (by have := uk.1.2.2; omega), fun u hu => (uk.2 u hu).2.2.1, g1, g2, fun z => by omega⟩
/-- a round behind a try that failed -/
def kRd (kf : Nat) (x1 p : Int32) (e : Nat) (M2 : CM) : Option ((Unit ⊕ (Unit ⊕ Nat)) × CM) := nm (mI M2 57 1) fun v17 => obS (KL_X0_lowerIndex_60 FU x1 p (nI e) v17 0 M2) (fun r89 M34 => some (.inr r89, M34)) fun q33 M34 => nm (mI M34 65 1) fun v36 => obS (KL_X0_lowerIndex_120 FU x1 p (nI e) v17 v36 0 M34) (fun r87 M63 => some (.inr r87, M63)) fun q62 M63 => ob (KL_X0_lowerIndex_186 FU x1 p (nI e) v17 0 M63) fun q76 M77 => if inb (nI e) 180 then nm (mA M77 129 (ix (nI e))) fun v80 => ob (K_X0_unmark M77) fun r82 M81 => KL_X0_lowerIndex_42 kf x1 p v80 M81 else none
def tRd (tf : Nat) (y1 : Int32) (e : Nat) (s2 : TS) : Option ((Unit ⊕ Unit) × TS) := nm (tI s2 197) fun v28 => ob (L_reduce_94 FU y1 (nI e) v28 0 s2) fun q46 s47 => J_reduce_146_64 (L_reduce_64 tf) y1 (nI e) v28 s47
theorem t_191b (h : tI s 0 ≠ 0) (rec : Int32 → Int32 → TS → Option ((Unit ⊕ Unit) × TS)) (x1 x2 x3 : Int32) : J_reduce_191_64 rec x1 x2 x3 s = some (.inr (), s) := by
  unfold J_reduce_191_64
  rw [t_isBad1 h, ob_some, ifF (by decide)]
theorem z_round {kf tf : Nat} (hV : V ≤ 96) (i2 : IdxR V E U S K N D M s) (he : e < S) (h205 : tI s 205 = nI 0) (p605 : mI M 605 133 = p) (p204 : tI s 204 = p) (gg : ∀ u, u < U → mA M 122 u = tA s 191 u) (rg2 : Rg U S (fun u => mA M 122 u)) (rq2 : RgQ U S (fun x => tA s 180 x = 0) (fun u => tA s 191 u)) (mk8 : ∀ u, u < U → mA M 138 u = tA s 199 u) (mk9 : ∀ x, x < S → mA M 139 x = tA s 200 x) (me : ¬ tA s 200 e = 0) (mu : ∀ u, u < U → ¬ tA s 199 u = 0 → tA s 189 u = -1 ∧ ∃ x, x < S ∧ tA s 191 u = nI x ∧ ¬ tA s 200 x = 0) (lw : LwI H E J U S s) (lc : LwC E J U s e) (ms_ : ∀ x, x < S → ¬ tA s 200 x = 0 → x = e ∨ ∃ u, u < U ∧ ¬ tA s 199 u = 0 ∧ tA s 191 u = nI x) (mx : ∀ x, x < S → ¬ tA s 200 x = 0 → (tA s 180 x = 0 ∧ tA s 194 x = -1) ∧ ∀ u, u < U → ¬ tA s 202 (200 * x + u) = 0 → tA s 189 u = -1 → ¬ tA s 199 u = 0) :
    (∃ w M' s', kRd kf x1 p e M = some (.inr (.inr w), M') ∧ tRd tf y1 e s = some (.inr (), s') ∧ FltI D M M' w p ∧ Ft rdT s s' ∧ tI s' 0 = 52 ∧ tI s' 1 = p ∧ Nd5 s s' N) ∨
    ∃ D' M' K' N' U' S' s' e', kRd kf x1 p e M = KL_X0_lowerIndex_42 kf x1 p (nI e') M' ∧ tRd tf y1 e s = L_reduce_64 tf y1 (nI e') s' ∧ RdS V E U' S' K' N' p D' M' s' ∧ (e' < S' ∧ tA s' 180 e' = 0 ∧ ∀ i, i < 180 → mA M' 138 i = 0 ∧ mA M' 139 i = 0) ∧ (U ≤ U' ∧ S + 1 ≤ S' ∧ K ≤ K' ∧ N ≤ N') ∧ SvR [57, 65, 605] ixA D M D' M' ∧ Ft rdT s s' ∧ (NdU s s' N U ∧ SnK D M D' M' 134 K) ∧ (∀ g, g < S → tA s' 180 g = tA s 180 g) ∧ LwI H E J U' S' s' ∧ LwC E J U' s' e' := by
  have fu := fu2
  obtain ⟨⟨A, r69⟩, ⟨m65, t143, S180, hE⟩, uk, -, eqs, dv, t0, -, rb, -⟩ := id i2
  obtain ⟨⟨u1, u2, u3⟩, u4⟩ := id uk
  have cN : mn M ≤ rmN D M := Nat.le_add_right _ _
  have cS : ms M ≤ rmS D M := Nat.le_add_right _ _
  have rm := A.2.2.2.2
  have hn := A.2.2.1
  unfold kRd tRd
  rw [u1, u2, nm_eq, nm_eq]
  rcases z_newUs (D := D) (M := M) (V := V) (x1 := x1) (x2 := p) (x3 := nI e) (y1 := y1) (y2 := nI e) u3 ⟨by omega, by omega, by omega⟩ U 0 FU FU M s U (by omega) (by omega) (by omega) ⟨rfl, rfl⟩ t0 p204 uk (Nat.le_refl _) mk8 (fun u _ hu z => (mu u hu z).1) with ⟨w, M', s', a1, a2, ⟨M1, a3, a4, a5⟩, a6, a7, a8⟩ | ⟨M3, s3, U', a1, a2, ⟨k3, f3, o3⟩, uk3, hU, a6, a7, a8, a9, a10⟩
  · left
    have tb : tI s' 0 ≠ 0 := by rw [a7]; decide
    obtain ⟨g, hg⟩ : ∃ g, FU = g + 1 := ⟨FU - 1, by omega⟩
    refine ⟨w, M', s', ?_, ?_, ⟨D, M1, K, A.kf a3 rfl rfl rfl, SvR.kf a3 rfl rfl ⟨rfl, rfl⟩ rfl, a4, a5⟩, a6.mono (by decide), a7, a8, Nd5.ft a6 rfl⟩
    · rw [show KL_X0_lowerIndex_60 FU x1 p (nI e) (nI U) 0 M = some (.inr (.inr w), M') from a1, obS_inr]
    · rw [show L_reduce_94 FU y1 (nI e) (nI U) 0 s = some ((), s') from a2, ob_some]
      unfold J_reduce_146_64
      rw [nm_eq, hg, t_155b tb, ob_some, t_191b tb]
  · have uk3' := id uk3
    obtain ⟨⟨v1, v2, v3⟩, v4⟩ := uk3'
    have x3 : NdU s s3 N U := ⟨fun f hf n _ => (f3 f (by
      have : ∀ k, k ∈ [121, 122, 123, 124, 134] → ukS.contains k = false := by decide
      exact this f hf)).2.2.1 n, fun f hf v => (f3 f (by
      have : ∀ k, k ∈ [94, 162, 177, 178, 179] → ukS.contains k = false := by decide
      exact this f hf)).2.2.1 v, fun u hu z => (a6 u hu).2 (fun y => z (mu u hu y.2.2).1)⟩
    have sn3 : SnK D M D M3 134 K := sn_of A o3 (fun f o => k3.r rfl o)
    have i3 : IdxR V E U' S K N D M3 s3 := i2.up (A.kf k3 rfl rfl rfl) ((k3.r rfl 1).trans r69) (k3.i rfl 1) sn3 x3 uk3 hU (fun o j ho => k3.ga (by rcases ho with rfl | rfl | rfl | rfl <;> rfl) j) (fun o j _ => k3.gx rfl j) (fun k hk => (f3 k (by
      have : ∀ k, k ∈ [0, 126, 129, 130, 143, 154] → ukS.contains k = false := by decide
      exact this k hk)).1) (f3 203 rfl).2.1 (fun k j hk => (f3 k (by
      have : ∀ k, k ∈ [141, 142, 180, 194, 195, 202] → ukS.contains k = false := by decide
      exact this k hk)).2.2.1 j)
    have e199 : ∀ u, tA s3 199 u = tA s 199 u := fun u => (f3 199 rfl).2.2.1 u
    have e200 : ∀ u, tA s3 200 u = tA s 200 u := fun u => (f3 200 rfl).2.2.1 u
    have e180 : ∀ u, tA s3 180 u = tA s 180 u := fun u => (f3 180 rfl).2.2.1 u
    have hd3 : ∀ x, x < S → ¬ tA s 200 x = 0 → HdE M3 s3 x := fun x hx z u hu y => by
      rw [(f3 202 rfl).2.2.1] at y
      have hu' : u < U := by
        by_cases q : u < U
        · exact q
        · exact absurd (rb x u hx (by omega) hu) y
      have le : mA M3 121 u = tA s3 189 u := (v4 u (by omega)).2.2.1
      rw [le]
      by_cases q : tA s 199 u = 0
      · have n1 : tA s 189 u ≠ -1 := fun z1 => (mx x hx z).2 u hu' y z1 q
        obtain ⟨w, w1, w2, w3⟩ := (u4 u hu').2.2.2.resolve_left n1
        have : tA s3 189 u = nI w := (x3.2.2 u hu' n1).trans w3
        exact ⟨w, ⟨this, by omega⟩, this⟩
      · obtain ⟨w, w1, w2, w3⟩ := (a6 u hu').1 ⟨Nat.zero_le _, hu', q⟩
        exact ⟨w, ⟨w3, by omega⟩, w3⟩
    rw [show KL_X0_lowerIndex_60 FU x1 p (nI e) (nI U) 0 M = some (.inl (), M3) from a1, obS_inl, show L_reduce_94 FU y1 (nI e) (nI U) 0 s = some ((), s3) from a2, ob_some]
    unfold J_reduce_146_64
    rw [i3.2.1.1, i3.2.1.2.1, nm_eq, nm_eq]
    have sv3 : SvR [57, 65, 605] ixA D M D M3 := SvR.kf k3 rfl rfl ⟨rfl, rfl⟩ rfl
    rcases z_diffs (x1 := x1) (x3 := nI e) (x4 := nI U) (y1 := y1) (y2 := nI e) (y3 := nI U) hV S180 S 0 FU FU D M3 s3 S K N (by omega) (by omega) (by omega) (Nat.le_refl _) i3 ⟨(o3 605 133 (by decide)).trans p605, (f3 204 rfl).1.trans p204⟩ (fun g hg => by rw [k3.ga rfl, e200]; exact mk9 g hg) (fun g _ hg z => by
      rw [e200] at z
      exact ⟨⟨(e180 g).trans (mx g hg z).1.1, ((f3 194 rfl).2.2.1 g).trans (mx g hg z).1.2⟩, hd3 g hg z⟩) with ⟨w, M', s', b1, b2, b3, b4, b5, b6⟩ | ⟨D4, M4, K4, N4, S4, s4, b1, b2, i4, ⟨hS4, hK4, hN4⟩, b5, b6, ⟨b7, b7'⟩, ⟨b8, b8'⟩, b9, b10, b11, b12, b13⟩
    · left
      have tb : tI s' 0 ≠ 0 := by rw [b5]; decide
      refine ⟨w, M', s', ?_, ?_, b3.pre sv3, (f3.mono (by decide)).tr (b4.mono (by decide)), b5, b6.1, Nd5.tr x3.1 b6.2 (Nat.le_refl _)⟩
      · rw [show KL_X0_lowerIndex_120 FU x1 p (nI e) (nI U) (nI S) 0 M3 = some (.inr (.inr w), M') from b1, obS_inr]
      · rw [show L_reduce_155 FU y1 (nI e) (nI U) (nI S) 0 s3 = some ((), s') from b2, ob_some, t_191b tb]
    · right
      have S4' := i4.2.1.2.2.1
      have c199 : ∀ u, tA s4 199 u = tA s 199 u := fun u => ((b6 199 rfl).2.2.1 u).trans (e199 u)
      have c191 : ∀ u, tA s4 191 u = tA s3 191 u := fun u => (b6 191 rfl).2.2.1 u
      have c189 : ∀ u, tA s4 189 u = tA s3 189 u := fun u => (b6 189 rfl).2.2.1 u
      have c122 : ∀ u, mA M4 122 u = mA M3 122 u := fun u => b5.2.2.2.2.2.2.1 122 u rfl (by decide)
      have old : ∀ u x, u < U → x < S4 → tA s4 191 u = nI x → x < S ∧ tA s 191 u = nI x := fun u x hu hx y => by
        rw [c191, (a8 u hu).2] at y
        have y2 := y
        rw [← gg u hu] at y2
        rcases rg2 u hu with z | ⟨x', x1', x2'⟩
        · exact absurd (y2.symm.trans z) (nI_m1 (by omega))
        · have : x = x' := nIq (y2.symm.trans x2') (by omega) (by omega)
          exact ⟨by omega, y⟩
      have fr191 : ∀ u, u < U' → ¬ u < U → tA s4 191 u = -1 := fun u h1 h2 => (c191 u).trans (a7 u (by omega) h1).2.2
      obtain ⟨d0, d1, d2, d3, d4⟩ := (b9 e he).1 ⟨Nat.zero_le _, he, by rw [e200]; exact me⟩
      obtain ⟨M5, s5, g1, g2, g3, g4, g5, g6, g7, g8, g9⟩ := z_give (D := D4) (x1 := x1) (x2 := p) (x3 := nI e) (y1 := y1) (y2 := nI e) (U := U') (U0 := U) (S := S4) ⟨hU, v3⟩ S4' U 0 FU FU M4 s4 (by omega) (by omega) (by omega) (fun u hu => by rw [b8' 138 u (Or.inl rfl), k3.ga rfl, c199]; exact mk8 u hu) (fun u hu => (i4.2.2.1.2 u hu).2.2.1) (fun e he => (i4.2.2.2.2.2.1 e he).1) (fun u hu => by
        rw [c122, c191]
        by_cases q : u < U
        · rw [(a8 u q).1, (a8 u q).2]; exact gg u q
        · rw [(a7 u (by omega) hu).2.1, (a7 u (by omega) hu).2.2]) (fun u hu => by
        show mA M4 122 u = -1 ∨ ∃ e, e < S4 ∧ mA M4 122 u = nI e
        rw [c122]
        by_cases q : u < U
        · rw [(a8 u q).1]
          exact (rg2 u q).imp id (fun ⟨x, h1, h2⟩ => ⟨x, by omega, h2⟩)
        · exact Or.inl (a7 u (by omega) hu).2.1) (fun u hu z => by
        rw [c199] at z
        obtain ⟨w, w1, w2, w3⟩ := (a6 u hu).1 ⟨Nat.zero_le _, hu, z⟩
        obtain ⟨-, x, y1', y2', y3'⟩ := mu u hu z
        obtain ⟨d, z1, z2, z3, z4⟩ := (b9 x y1').1 ⟨Nat.zero_le _, y1', by rw [e200]; exact y3'⟩
        exact ⟨⟨w, w1, w2, (c189 u).trans w3⟩, x, d, by omega, by rw [c191, (a8 u hu).2]; exact y2', z2, z3, z4⟩) (fun u x hu hx y => by
        by_cases q : u < U
        · obtain ⟨o1, o2⟩ := old u x q hx y
          rw [b10 x o1, e180]
          exact rq2 u x q o1 o2
        · rw [fr191 u hu q] at y
          exact absurd y.symm (nI_m1 (by omega))) (fun u u' w y1 y2 y3 y4 y5 y6 y7 => by
        rw [c199] at y3 y4
        rw [c189] at y6 y7
        rcases Nat.lt_trichotomy u u' with l | l | l
        · have := a10 u u' w w (Nat.zero_le _) l y2 y3 y4 y6 y7 y5 y5; omega
        · exact l
        · have := a10 u' u w w (Nat.zero_le _) l y1 y4 y3 y7 y6 y5 y5; omega)
      obtain ⟨M6, m1, m2, m3⟩ := k_unmark D4 M5
      have k56 : KF D4 [] [] fdA [] M4 M6 := (g3.mono rfl rfl (by decide) rfl).tr (m2.mono rfl rfl (by decide) rfl)
      have i6 : IdxR V E U' S4 K4 N4 D4 M6 s5 := i4.kf k56 (g4.mono (by decide))
      have f45 : Ft rdT s4 s5 := g4.mono (by decide)
      have f34 : Ft rdT s s4 := (f3.mono (by decide)).tr (b6.mono (by decide))
      have q5 : ∀ x, tA s5 180 x = tA s4 180 x := fun x => (g4 180 rfl).2.2.1 x
      have n5 : tA s5 194 e = nI d0 := ((g4 194 rfl).2.2.1 e).trans d3
      have h122 : ∀ u, mA M6 122 u = mA M5 122 u := fun u => m2.ga rfl u
      have ie1 : inb (nI e) 180 := inb_nI' (by omega) (by decide)
      have ie2 : inb (nI e) 400 := inb_nI' (by omega) (by decide)
      have xe : ix (nI e) = e := ix_nI (by omega)
      have q189 : ∀ u, tA s5 189 u = tA s3 189 u := fun u => ((g4 189 rfl).2.2.1 u).trans (c189 u)
      have q194 : ∀ u, tA s5 194 u = tA s4 194 u := fun u => (g4 194 rfl).2.2.1 u
      have rt : ∀ u, u < U → 0 ≤ tA s 191 u → ∃ x, x < S ∧ tA s 191 u = nI x := fun u hu h0 => by
        rcases rg2 u hu with z | z
        · have z : mA M 122 u = -1 := z
          rw [gg u hu] at z
          rw [z] at h0; exact absurd h0 (by decide)
        · obtain ⟨x, x1, x2⟩ := z
          exact ⟨x, x1, by rw [← gg u hu]; exact x2⟩
      have nx3 : ∀ u, u < U → ¬ tA s 199 u = 0 → ∃ w, U ≤ w ∧ w < U' ∧ tA s3 189 u = nI w := fun u hu z => (a6 u hu).1 ⟨Nat.zero_le _, hu, z⟩
      have oldv : ∀ u, u < U → tA s5 191 u = tA s 191 u := fun u hu => by
        rw [g9 u (by omega) (fun v _ hv y1 y2 => ?_), c191, (a8 u hu).2]
        rw [c199] at y1
        rw [c189] at y2
        obtain ⟨w, w1, w2, w3⟩ := nx3 v hv y1
        have := nIq (y2.symm.trans w3) (by omega) (by omega); omega
      have newv : ∀ w, w < U' → U ≤ w → tA s5 191 w = -1 ∨ ∃ u x d, u < U ∧ ¬ tA s 199 u = 0 ∧ tA s3 189 u = nI w ∧ tA s 191 u = nI x ∧ x < S ∧ ¬ tA s 200 x = 0 ∧ tA s5 194 x = nI d ∧ S ≤ d ∧ d < S4 ∧ tA s5 191 w = nI d := fun w hw hw2 => by
        by_cases q : ∃ u, u < U ∧ ¬ tA s 199 u = 0 ∧ tA s3 189 u = nI w
        · right
          obtain ⟨u, r1, r2, r3⟩ := q
          obtain ⟨-, x, x1, x2, x3⟩ := mu u r1 r2
          obtain ⟨d, d1, d2, d3, d4⟩ := (b9 x x1).1 ⟨Nat.zero_le _, x1, by rw [e200]; exact x3⟩
          refine ⟨u, x, d, r1, r2, r3, x2, x1, x3, (q194 x).trans d3, d1, d2, ?_⟩
          rw [g8 u w x (Nat.zero_le _) r1 (by rw [c199]; exact r2) (by rw [c189]; exact r3) hw (by rw [c191, (a8 u r1).2]; exact x2) (by omega)]
          exact d3
        · left
          rw [g9 w hw (fun u _ hu y1 y2 => q ⟨u, hu, by rw [← c199]; exact y1, by rw [← c189]; exact y2⟩), c191]
          exact (a7 w hw2 hw).2.2
      have derq : ∀ x x' d, x < S → ¬ tA s 200 x = 0 → x' < S → ¬ tA s 200 x' = 0 → tA s5 194 x = nI d → tA s5 194 x' = nI d → d < S4 → x = x' := fun x x' d y1 y2 y3 y4 y5 y6 y7 => by
        rw [q194] at y5 y6
        rw [← e200] at y2 y4
        rcases Nat.lt_trichotomy x x' with l | l | l
        · have := b13 x x' d d (Nat.zero_le _) l y3 y2 y4 y5 y6 y7 y7; omega
        · exact l
        · have := b13 x' x d d (Nat.zero_le _) l y1 y4 y2 y6 y5 y7 y7; omega
      have old194 : ∀ x, x < S → tA s 200 x = 0 → tA s5 194 x = tA s 194 x := fun x hx y => by
        rw [q194, (b9 x hx).2 (fun q => q.2.2 (by rw [e200]; exact y)), (f3 194 rfl).2.2.1]
      have sv6 : SvR [57, 65, 605] ixA D4 M4 D4 M6 := SvR.kf k56 rfl rfl ⟨rfl, rfl⟩ rfl
      have sn6 : SnK D4 M4 D4 M6 134 K4 := sn_of i4.1.1 (fun f o _ => k56.i rfl o) (fun f o => k56.r rfl o)
      have m129 : mA M5 129 e = nI d0 := by rw [g3.ga rfl, (i4.2.2.2.2.2.1 e (by omega)).1]; exact d3
      have x45 : NdU s4 s5 N4 U' := (NdX.ft g4 rfl).nu
      refine ⟨D4, M6, K4, N4, U', S4, s5, d0, ?_, ?_, ⟨i6, fun u hu => by rw [h122]; exact g5 u hu, fun u hu => by
        show mA M6 122 u = -1 ∨ ∃ e, e < S4 ∧ mA M6 122 u = nI e
        rw [h122]; exact g6 u hu, fun u x hu hx y => g7 u x hu hx y, ?_, ?_, ?_⟩, ⟨d2, (q5 d0).trans d4, m3⟩, ⟨hU, by omega, hK4, hN4⟩, (sv3.tr (b5.mono (by decide) (by decide))).tr sv6, f34.tr f45, ⟨(x3.tr b7.nu (Nat.le_refl _) (Nat.le_refl _)).tr x45 hN4 hU, (sn3.tr b7' (Nat.le_refl _)).tr sn6 hK4⟩, fun g hg => by rw [q5, b10 g hg, e180], ?_, ?_⟩
      · rw [show KL_X0_lowerIndex_120 FU x1 p (nI e) (nI U) (nI S) 0 M3 = some (.inl (), M4) from b1, obS_inl, show KL_X0_lowerIndex_186 FU x1 p (nI e) (nI U) 0 M4 = some ((), M5) from g1, ob_some, ifT ie1, xe, m129, nm_eq, m1, ob_some]
      · rw [show L_reduce_155 FU y1 (nI e) (nI U) (nI S) 0 s3 = some ((), s4) from b2, ob_some]
        unfold J_reduce_191_64
        rw [t_isBad0 i4.2.2.2.2.2.2.1, ob_some, ifT rfl, show L_reduce_202 FU y1 (nI e) (nI U) 0 s4 = some ((), s5) from g2, ob_some, ifT ie2, xe, n5, nm_eq]
      · exact ((g4 205 rfl).1.trans (b6 205 rfl).1).trans ((f3 205 rfl).1.trans h205)
      · exact (k56.i rfl 133).trans b8
      · exact ((g4 204 rfl).1.trans (b6 204 rfl).1).trans ((f3 204 rfl).1.trans p204)
      · obtain ⟨⟨w1, w2⟩, w3, w4, w5⟩ := lw
        refine ⟨⟨?_, ?_⟩, fun u u' hu hu' hne h0 he => ?_, fun u x hu hx y => ?_, fun k k1 k2 => ?_⟩
        · rw [show hcU s5 U' = hcU s3 U' from cnB_eq (fun u _ => by rw [q189]), a9]; exact w1
        · rw [show udc s5 S4 = udc s4 S4 from cnB_eq (fun u _ => by rw [q5, q194]), b11, show udc s3 S = udc s S from cnB_eq (fun u _ => by rw [e180, (f3 194 rfl).2.2.1])]; exact w2
        · have h0 : 0 ≤ tA s5 191 u := h0
          have he : tA s5 191 u = tA s5 191 u' := he
          by_cases z : u < U
          · rw [oldv u z] at h0 he
            by_cases z' : u' < U
            · rw [oldv u' z'] at he
              exact w3 u u' z z' hne h0 he
            · obtain ⟨x, x1, x2⟩ := rt u z h0
              rcases newv u' hu' (by omega) with y | ⟨v, x', d, v1, v2, v3, v4, v5, v6, v7, v8, v9, v10⟩
              · rw [y, x2] at he; exact nI_m1 (by omega) he
              · have := nIq (x2.symm.trans (he.trans v10)) (by omega) (by omega); omega
          · rcases newv u hu (by omega) with y | ⟨v, x, d, v1, v2, v3, v4, v5, v6, v7, v8, v9, v10⟩
            · rw [y] at h0; exact absurd h0 (by decide)
            · rw [v10] at he
              by_cases z' : u' < U
              · rw [oldv u' z'] at he
                obtain ⟨x', x1, x2⟩ := rt u' z' (by rw [← he]; exact nn_nI (by omega))
                have := nIq (he.trans x2) (by omega) (by omega); omega
              · rcases newv u' hu' (by omega) with y | ⟨v', x', d', v1', v2', v3', v4', v5', v6', v7', v8', v9', v10'⟩
                · rw [y] at he; exact nI_m1 (by omega) he
                · have dd : d = d' := nIq (he.trans v10') (by omega) (by omega)
                  have xx : x = x' := derq x x' d v5 v6 v5' v6' v7 (by rw [dd]; exact v7') v9
                  have vv : v = v' := by
                    by_cases vv : v = v'
                    · exact vv
                    · exfalso
                      refine w3 v v' v1 v1' vv ?_ ?_
                      · show (0 : Int32) ≤ tA s 191 v
                        rw [v4]; exact nn_nI (by omega)
                      · show tA s 191 v = tA s 191 v'
                        rw [v4, v4', xx]
                  rw [vv] at v3
                  exact hne (nIq (v3.symm.trans v3') (by omega) (by omega))
        · by_cases z : u < U
          · rw [oldv u z] at y
            have x1 : x < S := by
              obtain ⟨x', x1, x2⟩ := rt u z (by rw [y]; exact nn_nI (by omega))
              have := nIq (y.symm.trans x2) (by omega) (by omega); omega
            refine ⟨(w4 u x z x1 y).1, fun y1 => ?_⟩
            rw [q189] at y1
            have um : tA s 199 u = 0 := by
              by_cases q : tA s 199 u = 0
              · exact q
              · obtain ⟨w, -, w2', w3⟩ := (a6 u z).1 ⟨Nat.zero_le _, z, q⟩
                exact absurd (w3.symm.trans y1) (nI_m1 (by omega))
            have y2 : tA s 189 u = -1 := by rw [← (a6 u z).2 (fun q => q.2.2 um)]; exact y1
            have xm : tA s 200 x = 0 := by
              by_cases q : tA s 200 x = 0
              · exact q
              · exfalso
                rcases ms_ x x1 q with r | ⟨u1, r1, r2, r3⟩
                · rw [r] at y; exact lc.2.2 u z y
                · by_cases r4 : u = u1
                  · rw [r4] at um; exact r2 um
                  · refine w3 u u1 z r1 r4 ?_ ?_
                    · show (0 : Int32) ≤ tA s 191 u
                      rw [y]; exact nn_nI (by omega)
                    · show tA s 191 u = tA s 191 u1
                      rw [y, r3]
            rw [old194 x x1 xm]
            exact (w4 u x z x1 y).2 y2
          · rcases newv u hu (by omega) with y1 | ⟨v, x', d, v1, v2, v3, v4, v5, v6, v7, v8, v9, v10⟩
            · rw [y1] at y; exact absurd y.symm (nI_m1 (by omega))
            · have dd : x = d := nIq (y.symm.trans v10) (by omega) (by omega)
              rw [dd]
              exact ⟨Or.inr (by omega), fun _ => (q194 d).trans (b12 d v8 v9)⟩
        · have km : tA s 200 k = 0 := by
            by_cases q : tA s 200 k = 0
            · exact q
            · exfalso
              rcases ms_ k (by omega) q with r | ⟨u1, r1, r2, r3⟩
              · have := lc.2.1; omega
              · have := (w4 u1 k r1 (by omega) r3).1; omega
          rw [old194 k (by omega) km]
          exact w5 k k1 k2
      · refine ⟨(q194 d0).trans (b12 d0 d1 d2), Or.inr (by omega), fun u hu y => ?_⟩
        by_cases z : u < U
        · rw [oldv u z] at y
          obtain ⟨x', x1, x2⟩ := rt u z (by rw [y]; exact nn_nI (by omega))
          have := nIq (y.symm.trans x2) (by omega) (by omega); omega
        · rcases newv u hu (by omega) with y1 | ⟨v, x', d, v1, v2, v3, v4, v5, v6, v7, v8, v9, v10⟩
          · rw [y1] at y; exact absurd y.symm (nI_m1 (by omega))
          · have dd : d0 = d := nIq (y.symm.trans v10) (by omega) (by omega)
            have : x' = e := derq x' e d v5 v6 he me v7 (by rw [← dd]; exact n5) v9
            rw [this] at v4
            exact lc.2.2 v v1 v4
theorem z_rounds (hV : V ≤ 96) : ∀ (d e kf tf : Nat) (D : FQ) (M : CM) (s : TS) (U S K N : Nat), 181 ≤ S + d → d < kf → d < tf → RdS V E U S K N p D M s → e < S → tA s 180 e = 0 → LwI H E J U S s → LwC E J U s e → (∀ i, i < 180 → mA M 138 i = 0 ∧ mA M 139 i = 0) →
    (∃ w M' s', KL_X0_lowerIndex_42 kf x1 p (nI e) M = some (.inr (.inr w), M') ∧ L_reduce_64 tf y1 (nI e) s = some (.inr (), s') ∧ FltI D M M' w p ∧ Ft rdT s s' ∧ tI s' 0 = 52 ∧ tI s' 1 = p ∧ Nd5 s s' N) ∨
    ∃ D' M' K' N' U' S' s', KL_X0_lowerIndex_42 kf x1 p (nI e) M = some (.inl (), M') ∧ L_reduce_64 tf y1 (nI e) s = some (.inl (), s') ∧ RdS V E U' S' K' N' p D' M' s' ∧ (U ≤ U' ∧ S ≤ S' ∧ K ≤ K' ∧ N ≤ N') ∧ SvR [57, 65, 605] ixA D M D' M' ∧ Ft rdT s s' ∧ (NdU s s' N U ∧ SnK D M D' M' 134 K) ∧ (∀ g, g < S → tA s' 180 g = tA s 180 g) ∧ LwI H E J U' S' s' := by
  intro d
  induction d with
  | zero =>
    intro e kf tf D M s U S K N hd _ _ h
    have := h.1.2.1.2.2.1
    omega
  | succ d ih =>
    intro e kf tf D M s U S K N hd hkf htf h he z0 lw lc mk
    obtain ⟨kf, rfl⟩ : ∃ g, kf = g + 1 := ⟨kf - 1, by omega⟩
    obtain ⟨tf, rfl⟩ : ∃ g, tf = g + 1 := ⟨tf - 1, by omega⟩
    obtain ⟨i, g1, g2, g3, h205, p605, p204⟩ := id h
    have t0 : tI s 0 = 0 := i.2.2.2.2.2.2.1
    have hS := i.2.1.2.2.1
    have hU := i.2.2.1.1.2.2
    obtain ⟨s1, m1, m2, m3⟩ := t_unmark s
    have h1 : RdS V E U S K N p D M s1 := ⟨i.kf KF.rf (m2.mono (by decide)), fun u hu => (g1 u hu).trans ((m2 191 rfl).2.2.1 u).symm, g2, fun u x hu hx y => by
      show tA s1 180 x = 0
      rw [(m2 180 rfl).2.2.1]
      exact g3 u x hu hx (by show tA s 191 u = nI x; rw [← (m2 191 rfl).2.2.1]; exact y), (m2 205 rfl).1.trans h205, p605, (m2 204 rfl).1.trans p204⟩
    obtain ⟨r, g, m, q, M2, s2, hfd, a1, a2, a3, a4, a5, a6, a7⟩ := z_try (D := D) h1.try (by decide) h1.2.2.2.2.1 he mk m3
    have fo := fd_o (U := U) (mode := 0) (isn := fun e u => mA M 132 (180 * e + u)) (ct := ctM M 0) hS 300 e (fun u => mA M 122 u, fun _ => 0, fun _ => 0) he g2
    have g3' : RgQ U S (fun x => tA s 180 x = 0) (fun u => mA M 122 u) := fun u x hu hx y => g3 u x hu hx (by show tA s 191 u = nI x; rw [← g1 u hu]; exact y)
    have fq := fd_q (U := U) (mode := 0) (isn := fun e u => mA M 132 (180 * e + u)) (ct := ctM M 0) (Q := fun x => tA s 180 x = 0) hS 300 e (fun u => mA M 122 u, fun _ => 0, fun _ => 0) he g2 z0 g3'
    have ct1 : ∀ u, u < U → (ctM M 0 u = true ↔ tA s 189 u = -1) := fun u hu => by
      unfold ctM
      rw [ifT rfl, (i.2.2.1.2 u hu).2.2.1]
      rcases (i.2.2.1.2 u hu).2.2.2 with y | ⟨w, w1, w2, w3⟩
      · rw [y]; decide
      · rw [w3]
        exact ⟨fun z => absurd (nn_nI (by omega)) (of_decide_eq_true z), fun z => absurd z (nI_m1 (by omega))⟩
    have rc0 : RgC U S (ctM M 0) (fun x => tA s 180 x = 0 ∧ tA s 194 x = -1) (fun u => mA M 122 u) := fun u x hu hx c y => by
      have y : mA M 122 u = nI x := y
      rw [g1 u hu] at y
      exact ⟨g3 u x hu hx y, (lw.2.2.1 u x hu hx y).2 ((ct1 u hu).mp c)⟩
    have fqc := fd_qc (U := U) (mode := 0) (isn := fun e u => mA M 132 (180 * e + u)) (ct := ctM M 0) hS 300 e (fun u => mA M 122 u, fun _ => 0, fun _ => 0) he g2 ⟨z0, lc.1⟩ rc0
    have fs := fd_s (U := U) (mode := 0) (isn := fun e u => mA M 132 (180 * e + u)) (ct := ctM M 0) hS 300 e (fun u => mA M 122 u, fun _ => 0, fun _ => 0) he g2
    have inj0 : Inj U (fun u => mA M 122 u) := fun u u' hu hu' hne h0 he => by
      have h0 : 0 ≤ mA M 122 u := h0
      have he : mA M 122 u = mA M 122 u' := he
      rw [g1 u hu] at h0 he
      rw [g1 u' hu'] at he
      exact lw.2.1 u u' hu hu' hne h0 he
    have fk := fd_ok (U := U) (mode := 0) (isn := fun e u => mA M 132 (180 * e + u)) (ct := ctM M 0) hS 300 e (fun u => mA M 122 u, fun _ => 0, fun _ => 0) he g2 inj0 (fun u hu y => absurd (show tA s 191 u = nI e by rw [← g1 u hu]; exact y) (lc.2.2 u hu)) (fun u hu y => absurd rfl y)
    have fc := fd_cl (U := U) (mode := 0) (isn := fun e u => mA M 132 (180 * e + u)) (ct := ctM M 0) hS 300 e (fun u => mA M 122 u, fun _ => 0, fun _ => 0) he g2 (fun u hu y => absurd rfl y) (Nat.lt_of_le_of_lt (cz_le _ _) (by omega))
    rw [hfd] at fo fq fqc fs fk fc
    have i2 : IdxR V E U S K N D M2 s2 := (h1.1).kf a3 a4
    have e180 : ∀ x, tA s2 180 x = tA s 180 x := fun x => by rw [(a4 180 rfl).2.2.1, (m2 180 rfl).2.2.1]
    have gg : ∀ u, u < U → mA M2 122 u = tA s2 191 u := fun u hu => by rw [(a5 u hu).1, (a5 u hu).2]
    have rg2 : Rg U S (fun u => mA M2 122 u) := fun u hu => by
      show mA M2 122 u = -1 ∨ ∃ e, e < S ∧ mA M2 122 u = nI e
      rw [(a5 u hu).1]; exact fo.1 u hu
    have rq2 : RgQ U S (fun x => tA s2 180 x = 0) (fun u => tA s2 191 u) := fun u x hu hx y => by
      show tA s2 180 x = 0
      rw [e180]
      exact fq u x hu hx (by
        have : tA s2 191 u = nI x := y
        show g u = nI x
        rw [← (a5 u hu).2]; exact this)
    have f12x : Ft fdT s s2 := (m2.mono (by decide)).tr a4
    have f12 : Ft rdT s s2 := (m2.mono (by decide)).tr (a4.mono (by decide))
    have eK : KL_X0_lowerIndex_42 (kf + 1) x1 p (nI e) M = if bI r = 0 then kRd kf x1 p e M2 else some (.inl (), M2) := by
      conv => lhs; unfold KL_X0_lowerIndex_42
      rw [show K_X0_find_2 (nI e) 0 M = some (bI r, M2) from a1, ob_some]
      rfl
    have eT : L_reduce_64 (tf + 1) y1 (nI e) s = if bI r = 0 then tRd tf y1 e s2 else some (.inl (), s2) := by
      conv => lhs; unfold L_reduce_64
      rw [t_isBad0 t0, ob_some, ifT rfl, m1, ob_some, a2, ob_some]
      rfl
    have sn2 : SnK D M D M2 134 K := sn_of i.1.1 (fun f o _ => a3.i rfl o) (fun f o => a3.r rfl o)
    have x2 : NdU s s2 N U := (NdX.ft (S := fdT) ((m2.mono (by decide)).tr a4) rfl).nu
    have sv2 : SvR [57, 65, 605] ixA D M D M2 := SvR.kf a3 rfl rfl ⟨rfl, rfl⟩ rfl
    have h605 := (a3.i rfl 133).trans p605
    rw [eK, eT]
    by_cases hr : r = true
    · right
      subst hr
      refine ⟨D, M2, K, N, U, S, s2, by unfold bI; rw [ifT rfl, ifF (by decide)], by unfold bI; rw [ifT rfl, ifF (by decide)], ⟨i2, gg, rg2, rq2, (f12 205 rfl).1.trans h205, h605, (f12 204 rfl).1.trans p204⟩, ⟨Nat.le_refl _, Nat.le_refl _, Nat.le_refl _, Nat.le_refl _⟩, sv2, f12, ⟨x2, sn2⟩, fun g hg => e180 g, ?_⟩
      obtain ⟨k1, k2, k3, k4, k5, k6, k7, k8⟩ := fk rfl
      have e194 : ∀ x, tA s2 194 x = tA s 194 x := fun x => (f12x 194 rfl).2.2.1 x
      have e189 : ∀ x, tA s2 189 x = tA s 189 x := fun x => (f12x 189 rfl).2.2.1 x
      refine ⟨⟨?_, ?_⟩, fun u u' hu hu' hne h0 hee => ?_, fun u x hu hx y => ?_, fun k y1 y2 => by rw [e194]; exact lw.2.2.2 k y1 y2⟩
      · rw [show hcU s2 U = hcU s U from cnB_eq (fun u _ => by rw [e189])]; exact lw.1.1
      · rw [show udc s2 S = udc s S from cnB_eq (fun u _ => by rw [e180, e194])]; exact lw.1.2
      · have h0 : 0 ≤ tA s2 191 u := h0
        have hee : tA s2 191 u = tA s2 191 u' := hee
        rw [(a5 u hu).2] at h0 hee
        rw [(a5 u' hu').2] at hee
        exact k2 u u' hu hu' hne rfl rfl h0 hee
      · rw [(a5 u hu).2] at y
        refine ⟨?_, fun y1 => ?_⟩
        · rcases k4 u hu rfl (show 0 ≤ g u by rw [y]; exact nn_nI (by omega)) with r | ⟨u1, r1, -, r3⟩
          · rw [show x = e from nIq (y.symm.trans r) (by omega) (by omega)]; exact lc.2.1
          · have r3 : mA M 122 u1 = g u := r3
            rw [g1 u1 r1, y] at r3
            exact (lw.2.2.1 u1 x r1 hx r3).1
        · rw [e189] at y1
          rw [e194]
          exact (fqc u x hu hx ((ct1 u hu).mpr y1) y).2
    · have hr0 : r = false := by cases r with | true => exact absurd rfl hr | false => rfl
      subst hr0
      obtain ⟨c1, c2, c3⟩ := fc rfl
      rw [ifT (show bI false = 0 by decide), ifT (show bI false = 0 by decide)]
      have u189 : ∀ u, tA s2 189 u = tA s 189 u := fun u => (f12x 189 rfl).2.2.1 u
      have u194 : ∀ u, tA s2 194 u = tA s 194 u := fun u => (f12x 194 rfl).2.2.1 u
      have same : g = fun u => mA M 122 u := fo.2.2.2.1 rfl
      have s191 : ∀ u, u < U → tA s2 191 u = tA s 191 u := fun u hu => by rw [(a5 u hu).2, same]; exact g1 u hu
      have lw2 : LwI H E J U S s2 := by
        refine ⟨⟨?_, ?_⟩, fun u u' hu hu' hne h0 hee => ?_, fun u x hu hx y => ?_, fun k y1 y2 => by rw [u194]; exact lw.2.2.2 k y1 y2⟩
        · rw [show hcU s2 U = hcU s U from cnB_eq (fun u _ => by rw [u189])]; exact lw.1.1
        · rw [show udc s2 S = udc s S from cnB_eq (fun u _ => by rw [e180, u194])]; exact lw.1.2
        · have h0 : 0 ≤ tA s2 191 u := h0
          have hee : tA s2 191 u = tA s2 191 u' := hee
          rw [s191 u hu] at h0 hee
          rw [s191 u' hu'] at hee
          exact lw.2.1 u u' hu hu' hne h0 hee
        · rw [s191 u hu] at y
          rw [u189, u194]
          exact lw.2.2.1 u x hu hx y
      have lc2 : LwC E J U s2 e := ⟨(u194 e).trans lc.1, lc.2.1, fun u hu => by rw [s191 u hu]; exact lc.2.2 u hu⟩
      have fs := fs rfl
      rcases z_round (kf := kf) (tf := tf) (x1 := x1) (y1 := y1) hV i2 he ((f12 205 rfl).1.trans h205) h605 ((f12 204 rfl).1.trans p204) gg rg2 rq2 (fun u hu => by rw [(a6 u hu).1, (a6 u hu).2]) (fun x hx => by rw [(a7 x hx).1, (a7 x hx).2]) (by rw [(a7 e he).2]; exact c3) (fun u hu z => by
        rw [(a6 u hu).2] at z
        obtain ⟨d1, x, d2, d3, d4⟩ := c1 u hu z
        exact ⟨by rw [u189]; exact (ct1 u hu).mp d1, x, d2, by rw [(a5 u hu).2]; exact d3, by rw [(a7 x d2).2]; exact d4⟩) lw2 lc2 (fun x hx z => by
        rw [(a7 x hx).2] at z
        rcases fs x hx z with y | y | ⟨u, y1, y2, y3, y4⟩
        · exact absurd rfl y
        · exact Or.inl y
        · exact Or.inr ⟨u, y1, by rw [(a6 u y1).2]; exact y3, by rw [s191 u y1, ← g1 u y1]; exact y4⟩) (fun x hx z => by
        rw [(a7 x hx).2] at z
        refine ⟨?_, fun u hu y z1 => ?_⟩
        · rw [e180, u194]
          rcases fs x hx z with y | y | ⟨u, y1, y2, y3, y4⟩
          · exact absurd rfl y
          · rw [y]; exact ⟨z0, lc.1⟩
          · exact rc0 u x y1 hx y2 y4
        · rw [(a6 u hu).2]
          rw [u189] at z1
          refine ((c2 x hx z).resolve_left (fun y => y rfl)) u hu ?_ ((ct1 u hu).mpr z1)
          show ¬ mA M 132 (180 * x + u) = 0
          rw [i.rw_ hx (by omega)]
          rw [(f12x 202 rfl).2.2.1] at y
          exact y) with ⟨w, M', s', b1, b2, b3, b4, b5⟩ | ⟨D3, M3, K3, N3, U3, S3, s3, e3, b1, b2, b3, ⟨b4, b5, b6⟩, ⟨b7, b8, b9, b10⟩, b11, b12, ⟨b13, b14⟩, b15, b16, b17⟩
      · exact Or.inl ⟨w, M', s', b1, b2, b3.pre sv2, f12.tr b4, b5.1, b5.2.1, Nd5.tr x2.1 b5.2.2 (Nat.le_refl _)⟩
      · rw [b1, b2]
        rcases ih e3 kf tf D3 M3 s3 U3 S3 K3 N3 (by omega) (by omega) (by omega) b3 b4 b5 b16 b17 b6 with ⟨w, M', s', l1, l2, l3, l4, l5⟩ | ⟨D', M', K', N', U', S', s', l1, l2, l3, ⟨l4, l5, l6, l7⟩, l8, l9, ⟨l10, l11⟩, l12, l13⟩
        · exact Or.inl ⟨w, M', s', l1, l2, l3.pre (sv2.tr b11), (f12.tr b12).tr l4, l5.1, l5.2.1, Nd5.tr (Nd5.tr x2.1 b13.1 (Nat.le_refl _)) l5.2.2 b10⟩
        · exact Or.inr ⟨D', M', K', N', U', S', s', l1, l2, l3, ⟨by omega, by omega, by omega, by omega⟩, (sv2.tr b11).tr l8, (f12.tr b12).tr l9, ⟨(x2.tr b13 (Nat.le_refl _) (Nat.le_refl _)).tr l10 b10 b7, (sn2.tr b14 (Nat.le_refl _)).tr l11 b9⟩, fun g hg => by rw [l12 g (by omega), b15 g hg, e180], l13⟩
end ROUND2
