/-! Layer B: solved trees with the relations told: steps; one flat node -/
set_option maxRecDepth 100000
def ArH (x0 l K K' t : Nat) : Prop := ArT x0 l K K' t ∨ t = 137
/-- nodes are made, relations told -/
def StH (x0 l : Nat) (D : FQ) (M : CM) (K : Nat) (D' : FQ) (M' : CM) (K' : Nat) : Prop := K ≤ K' ∧ Dx D D' M ∧ (∀ i, i ≠ l → pl D' i = pl D i) ∧ Fq D (ArH x0 l K K') M M' ∧ ((∀ g, g ≠ 604 → mI M' g x0 = mI M g x0) ∧ ∀ g, mR M' g x0 = mR M g x0) ∧ rmN D' M' ≤ rmN D M ∧ rmS D' M' ≤ rmS D M
def FlH (x0 l X : Nat) (D : FQ) (M : CM) (K w : Nat) (M' : CM) : Prop := ∃ D1 M1 K1, ArS x0 l X D1 M1 K1 ∧ StH x0 l D M K D1 M1 K1 ∧ w = mn M1 ∧ M' = wM M1 52 (mI M 605 x0)
def OKH (x0 l X : Nat) (D : FQ) (M : CM) (K : Nat) (r : Option ((Nat ⊕ Nat) × CM)) (z : Nat) (Q : FQ → CM → Nat → Nat → Prop) (E : Prop) : Prop :=
  (∃ a D' M' K', r = some (.inl a, M') ∧ ArS x0 l X D' M' K' ∧ StH x0 l D M K D' M' K' ∧ K' = K + z ∧ Q D' M' K' a) ∨ (∃ w M', r = some (.inr w, M') ∧ FlH x0 l X D M K w M' ∧ (X < K + z ∨ E))
section HOLD
variable {D D' D2 : FQ} {M M' M1 M2 : CM} {l V K K2 K0 K' Kf f a r k c1 c2 c3 t1 t2 t3 j v x0 X H z z1 z2 z3 o : Nat} {op vl x : Int32} {rs : Option ((Nat ⊕ Nat) × CM)} {kk : Nat → CM → Option ((Nat ⊕ Nat) × CM)} {Q Q' Q1 : FQ → CM → Nat → Nat → Prop} {E E' : Prop} {cf : Nat → CM → Option ((Nat ⊕ Nat) × CM)} {I R A0 X0 : List Nat}
/-- rows stay when nothing is made -/
theorem PoW.kf (h : PoW D M) (k : KF D I R A0 X0 M M') (h1 : I.contains 4202 = false) (h2 : [2605, 3204, 4201].all (fun k => !R.contains k) = true) (h3 : X0.all (fun x => x < 167) = true) : PoW D M' := by
  have hR : ∀ k, k ∈ [2605, 3204, 4201] → R.contains k = false := fun k hk => by simpa using List.all_eq_true.mp h2 k hk
  obtain ⟨a1, a2, a3, a4, a5⟩ := h
  have aq : ∀ l a, AQ D M l a → AQ D M' l a := fun l a q => by unfold AQ at *; rw [k.r (hR 4201 (by decide)), k.gl]; exact q
  refine ⟨fun l hl => ?_, fun l hl j hj => ?_, fun j hj => ?_, fun j hj => ?_, fun o o1 o2 o3 => ?_⟩
  · obtain ⟨b1, b2, b3⟩ := a1 l hl
    exact ⟨k.ls b1 b2 h1 (hR 4201 (by decide)) h3, aq _ _ b2, b3⟩
  · obtain ⟨b1, b2, b3⟩ := a2 l hl j hj
    exact ⟨by rw [k.k]; exact b1, by rw [k.n]; exact b2, b3⟩
  · rw [k.r (hR 3204 (by decide)), k.k, k.gl, k.n]; exact a3 j hj
  · obtain ⟨⟨xs, b1, b2⟩, b3, b4, b5⟩ := a4 j hj
    rw [k.r (hR 2605 (by decide)), k.n]
    exact ⟨⟨xs, k.ls b1 b5 h1 (hR 4201 (by decide)) h3, b2⟩, b3, b4, aq _ _ b5⟩
  · rw [k.k]; exact a5 o o1 (by rw [← k.n]; exact o2) o3
theorem ArS.kf (A : ArS x0 l X D M K) (k : KF D I R A0 X0 M M') (h1 : [601, 602, 603, 604, 4202].all (fun k => !I.contains k) = true) (h2 : [600, 801, 802, 803, 804, 805, 806, 2605, 3204, 4201].all (fun k => !R.contains k) = true) (h3 : X0.all (fun x => x < 167) = true) : ArS x0 l X D M' K := by
  have hI : ∀ k, k ∈ [601, 602, 603, 604, 4202] → I.contains k = false := fun k hk => by simpa using List.all_eq_true.mp h1 k hk
  have hR : ∀ k, k ∈ [600, 801, 802, 803, 804, 805, 806, 2605, 3204, 4201] → R.contains k = false := fun k hk => by simpa using List.all_eq_true.mp h2 k hk
  obtain ⟨hp, fx, hn, ⟨h604, hK, hKX⟩, rN, rS⟩ := A
  have rm := rm_same (D := D) (M := M) (M' := M') ⟨k.n, k.2.2.2.2.2.2.2.2⟩ (fun o => ⟨k.r (hR _ (by decide)) o, k.r (hR _ (by decide)) o, k.gl o⟩)
  have gR : ∀ q : Nat × Nat × Nat, q ∈ bfR → R.contains q.1 = false := fun q hq => hR _ (by
    have : ∀ q, q ∈ bfR → q.1 ∈ [600, 801, 802, 803, 804, 805, 806, 2605, 3204, 4201] := by decide
    exact this q hq)
  have gI : ∀ q : Nat × Nat × Int32, q ∈ bfI → I.contains q.1 = false := fun q hq => hI _ (by
    have : ∀ q, q ∈ bfI → q.1 ∈ [601, 602, 603, 604, 4202] := by decide
    exact this q hq)
  exact ⟨hp.kf k (hI _ (by decide)) (by simp only [List.all_cons, List.all_nil, hR 2605 (by decide), hR 3204 (by decide), hR 4201 (by decide)]; rfl) h3, fx.mv hn k.1 (fun q hq => k.r (gR q hq) _) (fun q hq => k.i (gI q hq) _), by rw [k.n]; exact hn, ⟨(k.i (hI _ (by decide)) x0).trans h604, hK, hKX⟩, by rw [rm.1]; exact rN, by rw [rm.2]; exact rS⟩
theorem ArS.w137 (A : ArS x0 l X D M K) : ArS x0 l X D (mwX M 137 r a) K := A.kf (I := []) (R := []) (A0 := []) (X0 := [137]) (KF.rf.wX rfl ⟨by decide, by decide⟩) rfl rfl rfl
theorem StA.h (h : StA x0 l D M K D' M' K') : StH x0 l D M K D' M' K' := ⟨h.1, h.2.1, h.2.2.1, h.2.2.2.1.mono (fun _ z => Or.inl z), h.2.2.2.2⟩
theorem StH.rf : StH x0 l D M K D M K := StA.rf.h
theorem StH.tr (h : StH x0 l D M K D' M' K') (g : StH x0 l D' M' K' D2 M2 K2) : StH x0 l D M K D2 M2 K2 :=
  ⟨Nat.le_trans h.1 g.1, h.2.1.tr g.2.1 h.2.2.2.1.1, fun i hi => (g.2.2.1 i hi).trans (h.2.2.1 i hi), (h.2.2.2.1.mono (fun t z => z.imp (fun z => z.up (Nat.le_refl _) g.1) id)).tr (g.2.2.2.1.mono (fun t z => z.imp (fun z => z.up h.1 (Nat.le_refl _)) id)) h.2.1, ⟨fun g' hg => (g.2.2.2.2.1.1 g' hg).trans (h.2.2.2.2.1.1 g' hg), fun g' => (g.2.2.2.2.1.2 g').trans (h.2.2.2.2.1.2 g')⟩, Nat.le_trans g.2.2.2.2.2.1 h.2.2.2.2.2.1, Nat.le_trans g.2.2.2.2.2.2 h.2.2.2.2.2.2⟩
theorem StH.w137 (h : StH x0 l D M K D' M' K') (hx : NdS2 x0 l X H) : StH x0 l D M K D' (mwX M' 137 r a) K' := by
  have rm := rm_same (D := D') (M := M') (M' := mwX M' 137 r a) ⟨rfl, rfl⟩ (fun o => ⟨rfl, rfl, rfl⟩)
  exact ⟨h.1, h.2.1, h.2.2.1, h.2.2.2.1.tr (show Fq D' (ArH x0 l K K') M' (mwX M' 137 r a) from Fz.rf.mwX (fun _ => by rw [tgo_s (by decide)]; exact Or.inr rfl)) h.2.1, h.2.2.2.2.1, by rw [rm.1, rm.2]; exact h.2.2.2.2.2⟩
theorem StH.so (h : StH x0 l D M K D' M' K') (ho : o < mn M) (hn : ¬ ArH x0 l K K' (tgof D o)) : So M M' o := Fz.so h.2.2.2.1 ho hn
theorem StH.s1 (h : StH x0 l D M K D' M' K') (hx : NdS2 x0 l X H) (hn : 167 ≤ mn M) (ho : o < 133) : So M M' o := h.so (by omega) (fun z => by
  rw [tgo_s (by omega)] at z
  have := hx.nu
  unfold ArH ArT tg at z; omega)
theorem StH.sl (h : StH x0 l D M K D' M' K') (hx : NdS2 x0 l X H) (A : PoW D M) {l' : Nat} (hl : l' ∈ flL) (hne : l' ≠ l) (hk : k < (pl D l').length) (hK : K' ≤ 40000) : So M M' ((pl D l').getD k 0) := by
  obtain ⟨a1, a2, a3⟩ := A.2.1 l' hl k hk
  refine h.so a2.2 (fun z => ?_)
  rw [tgo_d a2.1, a3] at z
  have mx : ∀ l, l ∈ flL → flX l ≤ 40000 ∧ 98 ≤ l := by decide
  have h1 := (A.1 l' (flL_A l' hl)).2.2
  have h2 := mx l' hl
  have := hx.nu
  have K4 : K ≤ K' := h.1
  unfold ArH ArT tg at z
  rcases z with (z | z | z) | z
  · omega
  · omega
  · rcases Nat.lt_or_gt_of_ne hne with q | q <;> omega
  · omega
theorem StH.sn (h : StH x0 l D M K D' M' K') (hx : NdS2 x0 l X H) (A : ArS x0 l X D M K) : SnK D M D' M' l K := fun k hk => by
  have nu := hx.nu
  have kD : k < (pl D l).length := by have := A.2.2.2.1.2.1; omega
  obtain ⟨a1, a2, a3⟩ := A.1.2.1 l nu.1 k kD
  have s : So M M' ((pl D l).getD k 0) := h.so a2.2 (fun z => by
    rw [tgo_d a2.1, a3] at z
    have := A.2.2.2.1.2.2
    unfold ArH ArT tg at z; omega)
  exact ⟨(h.2.1.1 l k kD).2, fun f => s.i f, fun f => s.r f⟩
theorem StA.a137 (h : StA x0 l D M K D' M' K') (hx : NdS2 x0 l X H) (hn : 167 ≤ mn M) : So M M' 137 := h.so (by omega) (fun z => by
  rw [tgo_s (by omega)] at z
  have := hx.nu
  unfold ArT tg at z; omega)
theorem FlH.pre {w : Nat} (h : FlH x0 l X D' M' K' w M2) (g : StH x0 l D M K D' M' K') : FlH x0 l X D M K w M2 := by
  obtain ⟨D1, M1, K1, a, b, c, d⟩ := h
  exact ⟨D1, M1, K1, a, g.tr b, c, by rw [d, g.2.2.2.2.1.1 605 (by decide)]⟩
theorem OKA.h (d : OKA x0 l X D M K rs z Q E) (hx : NdS2 x0 l X H) (hn : 167 ≤ mn M) : OKH x0 l X D M K rs z (fun D' M' K' a => Q D' M' K' a ∧ So M M' 137) E := by
  rcases d with ⟨a, D1, M1, K1, b0, b1, b2, b3, b4⟩ | ⟨w, M', b0, ⟨D1, M1, K1, c1, c2, c3, c4⟩, b2⟩
  · exact Or.inl ⟨a, D1, M1, K1, b0, b1, b2.h, b3, b4, b2.a137 hx hn⟩
  · exact Or.inr ⟨w, M', b0, ⟨D1, M1, K1, c1, c2.h, c3, c4⟩, b2⟩
theorem OKH.seq (d : OKH x0 l X D M K rs z1 Q1 E) (hk : ∀ a D1 M1 K1, ArS x0 l X D1 M1 K1 → StH x0 l D M K D1 M1 K1 → K1 = K + z1 → Q1 D1 M1 K1 a → OKH x0 l X D1 M1 K1 (kk a M1) z2 Q E) : OKH x0 l X D M K (obS rs (fun w M => some (.inr w, M)) kk) (z1 + z2) Q E := by
  rcases d with ⟨a, D1, M1, K1, rfl, b1, b2, b3, b4⟩ | ⟨w, M', rfl, b1, b2⟩
  · rw [obS_inl]
    rcases hk a D1 M1 K1 b1 b2 b3 b4 with ⟨a2, D2, M2, K2, c1, c2, c3, c4, c5⟩ | ⟨w, M', c1, c2, c3⟩
    · exact Or.inl ⟨a2, D2, M2, K2, c1, c2, b2.tr c3, by omega, c5⟩
    · exact Or.inr ⟨w, M', c1, c2.pre b2, c3.imp (fun q => by omega) id⟩
  · rw [obS_inr]
    exact Or.inr ⟨w, M', rfl, b1, b2.imp (fun q => by omega) id⟩
theorem OKH.mono (d : OKH x0 l X D M K rs z1 Q1 E) (hz : z1 = z2) (hQ : ∀ D' M' K' a, ArS x0 l X D' M' K' → StH x0 l D M K D' M' K' → K' = K + z1 → Q1 D' M' K' a → Q D' M' K' a) (hE : E → E') : OKH x0 l X D M K rs z2 Q E' := by
  subst hz
  rcases d with ⟨a, D1, M1, K1, b0, b1, b2, b3, b4⟩ | ⟨w, M', b0, b1, b2⟩
  · exact Or.inl ⟨a, D1, M1, K1, b0, b1, b2, b3, hQ _ _ _ _ b1 b2 b3 b4⟩
  · exact Or.inr ⟨w, M', b0, b1, b2.imp id hE⟩
theorem kh_null (A : ArS x0 l X D M K) : OKH x0 l X D M K (some (.inl 0, M)) 0 (fun D' M' K' a => a = 0 ∧ D' = D ∧ M' = M ∧ K' = K) E := Or.inl ⟨0, D, M, K, rfl, A, StH.rf, rfl, rfl, rfl, rfl, rfl⟩
theorem ArS.kx (A : ArS x0 l X D M K) (hx : NdS2 x0 l X H) : mk M x0 = 4 := by
  rcases hx with ⟨rfl, -⟩ | ⟨rfl, -⟩
  · exact (A.2.1.1 (133, 4, 0) (by decide)).1
  · exact (A.2.1.1 (135, 4, 0) (by decide)).1
/-- a flat node by its parts -/
theorem k_svB (hx : NdS2 x0 l X H) (A : ArS x0 l X D M K) (r69 : mR M 69 1 = x0) (hk : k < (pl D 106).length) (ha : a = (pl D 106).getD k 0) (hhe : mI M 3403 a = -1 ∨ ∃ r, r < 24 ∧ mI M 3403 a = nI r)
    {Q1 : FQ → CM → Nat → Nat → Prop} {Q2 : Nat → FQ → CM → Nat → Nat → Prop} {Q3 : Nat → Nat → FQ → CM → Nat → Nat → Prop}
    (C1 : OKH x0 l X D M K (cf (mR M 3405 a) M) z1 Q1 E)
    (C2 : ∀ r1 D1 M1 K1, ArS x0 l X D1 M1 K1 → StH x0 l D M K D1 M1 K1 → Q1 D1 M1 K1 r1 → OKH x0 l X D1 M1 K1 (cf (mR M 3406 a) M1) z2 (Q2 r1) E)
    (C3 : ∀ r1 r2 D2 M2 K2, ArS x0 l X D2 M2 K2 → StH x0 l D M K D2 M2 K2 → Q2 r1 D2 M2 K2 r2 → OKH x0 l X D2 M2 K2 (cf (mR M 3407 a) M2) z3 (Q3 r1 r2) E)
    (hq : ∀ r1 r2 r3 D3 M3 K3, ArS x0 l X D3 M3 K3 → StH x0 l D M K D3 M3 K3 → Q3 r1 r2 D3 M3 K3 r3 → ∃ t1 t2 t3, ChO D3 M3 l K3 r1 t1 ∧ ChO D3 M3 l K3 r2 t2 ∧ ChO D3 M3 l K3 r3 t3 ∧ hgt t1 t2 t3 ≤ H ∧ ∀ D4 M4, ArS x0 l X D4 M4 (K3 + 1) → StH x0 l D3 M3 K3 D4 M4 (K3 + 1) → NwS l D4 M4 K3 (mI M 3400 a) (mI M 3401 a) (mI M 3402 a) (mI M 3403 a) r1 r2 r3 (hgt t1 t2 t3) → ((mI M 3403 a = -1 ∧ ∀ j, mX M4 137 j = mX M3 137 j) ∨ ∃ r, r < 24 ∧ mI M 3403 a = nI r ∧ ∀ j, mX M4 137 j = if j = r then (pl D4 l).getD K3 0 else mX M3 137 j) → Q D4 M4 (K3 + 1) ((pl D4 l).getD K3 0)) :
    OKH x0 l X D M K (KJ_X0_solvedEx_57 cf a 0 M) (z1 + (z2 + (z3 + 1))) Q E := by
  have nu := hx.nu
  have l6 : (106 : Nat) ≠ l := by omega
  obtain ⟨ka, kr, -⟩ := A.1.2.1 106 (by decide) k hk
  rw [← ha] at ka kr
  have ka : mk M a = 18 := ka
  have sa : ∀ {D1 M1 K1}, ArS x0 l X D1 M1 K1 → StH x0 l D M K D1 M1 K1 → mk M1 a = 18 ∧ (∀ f, mI M1 f a = mI M f a) ∧ (∀ f, mR M1 f a = mR M f a) ∧ mR M1 69 1 = x0 := fun {D1 M1 K1} A1 st => by
    have s := st.sl hx A.1 (l' := 106) (by decide) l6 hk (by have := A1.2.2.2.1.2.2; omega)
    rw [← ha] at s
    exact ⟨s.k.trans ka, s.i, s.r, by rw [(st.s1 hx A.2.2.1 (by decide)).r]; exact r69⟩
  unfold KJ_X0_solvedEx_57
  rw [ifT (rfl : (0 : Int32) = 0), ifT ka]
  refine OKH.seq C1 (fun r1 D1 M1 K1 A1 S1 e1 q1 => ?_)
  obtain ⟨b1, b2, b3, b4⟩ := sa A1 S1
  rw [ifT b1, b3]
  refine OKH.seq (C2 r1 D1 M1 K1 A1 S1 q1) (fun r2 D2 M2 K2 A2 S2 e2 q2 => ?_)
  have S12 := S1.tr S2
  obtain ⟨b1, b2, b3, b4⟩ := sa A2 S12
  rw [ifT b1, b3]
  refine OKH.seq (C3 r1 r2 D2 M2 K2 A2 S12 q2) (fun r3 D3 M3 K3 A3 S3 e3 q3 => ?_)
  have S13 := S12.tr S3
  obtain ⟨d1, d2, d3, d4⟩ := sa A3 S13
  rw [ifT d1, ifT d1, d4, d2, d2, ifT (A3.kx hx)]
  obtain ⟨t1, t2, t3, g1, g2, g3, ht, fin⟩ := hq r1 r2 r3 D3 M3 K3 A3 S13 q3
  rcases ka_make (op := mI M 3400 a) (vl := mI M 3401 a) hx A3 g1 g2 g3 with ⟨a4, D4, M4, K4, c1, c2, c3, c4, c5, c6, c7⟩ | ⟨w, M', c1, ⟨D1', M1', K1', y1, y2, y3, y4⟩, c3⟩
  · subst c4
    have S14 := S13.tr c3.h
    obtain ⟨f1, f2, f3, f4⟩ := sa c2 S14
    have nk := c2.k18 hx (k := K3) (Nat.lt_succ_self _)
    obtain ⟨w1, w2⟩ := c2.wI (j := 3402) (x := mI M 3402 a) hx (k := K3) (Nat.lt_succ_self _)
    obtain ⟨w3, w4⟩ := w1.wI (j := 3403) (x := mI M 3403 a) hx (k := K3) (Nat.lt_succ_self _)
    have u1 := c3.wI (j := 3402) (x := mI M 3402 a) hx c2 ⟨Nat.le_refl _, Nat.lt_succ_self _⟩
    have u2 := u1.wI (j := 3403) (x := mI M 3403 a) hx w1 ⟨Nat.le_refl _, Nat.lt_succ_self _⟩
    have ne : a ≠ (pl D4 l).getD K3 0 := fun e => by
      have h6 : k < (pl D4 106).length := by rw [S14.2.2.1 106 l6]; exact hk
      have e6 : a = (pl D4 106).getD k 0 := by rw [S14.2.2.1 106 l6]; exact ha
      exact l6 (c2.1.inj (l := 106) (l' := l) (by decide) nu.1 h6 (by have := c2.2.2.2.1.2.1; omega) (e6.symm.trans e)).1
    have s37 := c3.a137 hx A3.2.2.1
    obtain ⟨M5, hM5⟩ : ∃ q, q = msI (msI M4 3402 ((pl D4 l).getD K3 0) (mI M 3402 a)) 3403 ((pl D4 l).getD K3 0) (mI M 3403 a) := ⟨_, rfl⟩
    have k5 : mk M5 ((pl D4 l).getD K3 0) = 18 := by rw [hM5]; exact nk.1
    have i5 : mI M5 3403 ((pl D4 l).getD K3 0) = mI M 3403 a := by rw [hM5, mI_msI, ifT ⟨rfl, rfl⟩]
    have x5 : ∀ j, mX M5 137 j = mX M3 137 j := fun j => by rw [hM5]; exact s37.x j
    have nw5 : NwS l D4 M5 K3 (mI M 3400 a) (mI M 3401 a) (mI M 3402 a) (mI M 3403 a) r1 r2 r3 (hgt t1 t2 t3) := by rw [hM5]; exact c6.set
    rw [← hM5] at w3 u2
    rw [c1, obS_inl, c5, ifT f1, ifT nk.1, f2, nm_eq, ifT (show mk (msI M4 3402 ((pl D4 l).getD K3 0) (mI M 3402 a)) a = 18 from f1), ifT (show mk (msI M4 3402 ((pl D4 l).getD K3 0) (mI M 3402 a)) ((pl D4 l).getD K3 0) = 18 from nk.1), mI_msI, ifF (by omega), f2, ← hM5, nm_eq, ifT k5, i5]
    left
    rcases hhe with z | ⟨r, r1', r2'⟩
    · rw [ifT (show mI M 3403 a < 0 by rw [z]; decide)]
      exact ⟨_, D4, M5, K3 + 1, rfl, w3, u2.h, rfl, fin D4 M5 w3 u2.h nw5 (Or.inl ⟨z, x5⟩)⟩
    · rw [r2', ifF (n_neg (by omega)), ifT k5, ifT ⟨inb_nI' r1' (by decide), Or.inr k5⟩, ix_nI (by omega), nm_eq]
      exact ⟨_, D4, _, K3 + 1, rfl, w3.w137, u2.h.w137 hx, rfl, fin D4 _ w3.w137 (u2.h.w137 hx) (by
        unfold NwS at *
        exact nw5) (Or.inr ⟨r, r1', r2', fun j => by
        rw [mX_mwX]
        by_cases y : j = r
        · rw [ifT ⟨rfl, y⟩, ifT y]
        · rw [ifF (fun z => y z.2), ifF y]; exact x5 j⟩)⟩
  · right
    refine ⟨w, M', by rw [c1, obS_inr], ⟨D1', M1', K1', y1, y2.h, y3, y4⟩, Or.inl ?_⟩
    rcases c3 with c3 | c3 <;> omega
/-- an unknown with its sign -/
theorem k_sv179 (hx : NdS2 x0 l X H) (A : ArS x0 l X D M K) (r69 : mR M 69 1 = x0) (hk : v < (pl D 98).length) (hs : mI M 3218 ((pl D 98).getD v 0) = x ∧ sg1 x) : OKH x0 l X D M K (KJ_X0_solvedEx_179 cf ((pl D 98).getD v 0) x0 op vl M) (if x = 1 then 1 else 2) (fun D' M' K' a => ((x = 1 ∧ a = (pl D' l).getD K 0 ∧ NwS l D' M' K op vl 0 (-1) 0 0 0 1) ∨ (x = -1 ∧ a = (pl D' l).getD (K + 1) 0 ∧ NwS l D' M' (K + 1) 7 0 0 (-1) ((pl D' l).getD K 0) 0 0 2 ∧ NwS l D' M' K op vl 0 (-1) 0 0 0 1)) ∧ So M M' 137) E := by
  have nu := hx.nu
  have hH : 200 ≤ H := by rcases hx with ⟨-, -, -, rfl⟩ | ⟨-, -, -, rfl⟩ <;> decide
  have k17 : mk M ((pl D 98).getD v 0) = 17 := (A.1.2.1 98 (by decide) v hk).1
  have c0 : ∀ {D M K}, ChO D M l K 0 0 := Or.inl ⟨rfl, rfl⟩
  unfold KJ_X0_solvedEx_179
  rw [ifT (A.kx hx)]
  have mk1 := (ka_make (op := op) (vl := vl) hx A c0 c0 c0).mono (E' := E) rfl (fun _ _ _ _ _ _ _ q => q) (fun q => by rw [hgt0] at q; omega)
  by_cases e : x = 1
  · rw [ifT e]
    have := (mk1.h hx A.2.2.1).seq (z2 := 0) (Q := fun D' M' K' a => ((x = 1 ∧ a = (pl D' l).getD K 0 ∧ NwS l D' M' K op vl 0 (-1) 0 0 0 1) ∨ (x = -1 ∧ a = (pl D' l).getD (K + 1) 0 ∧ NwS l D' M' (K + 1) 7 0 0 (-1) ((pl D' l).getD K 0) 0 0 2 ∧ NwS l D' M' K op vl 0 (-1) 0 0 0 1)) ∧ So M M' 137) (kk := fun r65 M64 => if mk M64 ((pl D 98).getD v 0) = 17 then if 0 ≤ mI M64 3218 ((pl D 98).getD v 0) then some (.inl r65, M64) else if mk M64 (mR M64 69 1) = 4 then obS (K_X3_make_2 (mR M64 69 1) 7 r65 0 M64) (fun w75 M71 => some (.inr w75, M71)) fun r72 M71 => some (.inl r72, M71) else none else none) (fun a D1 M1 K1 A1 S1 e1 q => by
      have sv := S1.sl hx A.1 (l' := 98) (by decide) (by omega) hk (by have := A1.2.2.2.1.2.2; omega)
      rw [ifT (sv.k.trans k17), sv.i, hs.1, ifT (show 0 ≤ x by rw [e]; decide)]
      obtain ⟨⟨q1, q2, -⟩, q3⟩ := q
      rw [hgt0] at q2
      exact Or.inl ⟨a, D1, M1, K1, rfl, A1, StH.rf, rfl, Or.inl ⟨e, q1, q2⟩, q3⟩)
    exact this
  · have xm : x = -1 := hs.2.resolve_left e
    rw [ifF e]
    refine (mk1.h hx A.2.2.1).seq (z2 := 1) (fun a D1 M1 K1 A1 S1 e1 q => ?_)
    have sv := S1.sl hx A.1 (l' := 98) (by decide) (by omega) hk (by have := A1.2.2.2.1.2.2; omega)
    have r1 : mR M1 69 1 = x0 := by rw [(S1.s1 hx A.2.2.1 (by decide)).r]; exact r69
    rw [ifT (sv.k.trans k17), sv.i, hs.1, ifF (show ¬ 0 ≤ x by rw [xm]; decide), r1, ifT (A1.kx hx)]
    obtain ⟨⟨rfl, q2, -⟩, q3⟩ := q
    rw [hgt0] at q2
    have h12 : hgt 1 0 0 = 2 := by decide
    have ch : ChO D1 M1 l K1 ((pl D1 l).getD K 0) 1 := Or.inr ⟨K, by omega, rfl, q2.2.2.2.2.1, by decide⟩
    have mk2 := (ka_make2 (op := 7) hx A1 ch c0).mono (E' := E) rfl (fun _ _ _ _ _ _ _ q => q) (fun q => by rw [h12] at q; omega)
    have := ((mk2.h hx A1.2.2.1).seq (z2 := 0) (Q := fun D' M' K' a => ((x = 1 ∧ a = (pl D' l).getD K 0 ∧ NwS l D' M' K op vl 0 (-1) 0 0 0 1) ∨ (x = -1 ∧ a = (pl D' l).getD (K + 1) 0 ∧ NwS l D' M' (K + 1) 7 0 0 (-1) ((pl D' l).getD K 0) 0 0 2 ∧ NwS l D' M' K op vl 0 (-1) 0 0 0 1)) ∧ So M M' 137) (kk := fun r72 M71 => some (.inl r72, M71)) (fun a D2 M2 K2 A2 S2 e2 q => by
      obtain ⟨⟨p1, p2, -⟩, p3⟩ := q
      rw [h12] at p2
      have sn := S2.sn hx A1
      have g := (sn K (by omega)).1
      subst e1
      rw [← g] at p2
      refine Or.inl ⟨a, D2, M2, K2, rfl, A2, StH.rf, rfl, Or.inr ⟨xm, p1, p2, ?_⟩, q3.tr p3⟩
      unfold NwS at *
      rw [g, (sn K (by omega)).2.1, (sn K (by omega)).2.1, (sn K (by omega)).2.1, (sn K (by omega)).2.1, (sn K (by omega)).2.1, (sn K (by omega)).2.2, (sn K (by omega)).2.2, (sn K (by omega)).2.2]
      exact q2))
    exact this
end HOLD
