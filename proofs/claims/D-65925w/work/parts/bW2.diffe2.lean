/-! Layer B: the index: an equation is differentiated, both sides -/
set_option maxRecDepth 100000
/-- an equation while the index is lowered -/
def EqI (D : FQ) (M : CM) (s : TS) (V K N e : Nat) : Prop := ∃ n1 n2, (tA s 141 e = nI n1 ∧ SxR D M s 134 V K N 200 0 (mX M 126 e) n1 ∧ PH s 200 n1 ≤ 200 ∧ PS s 200 n1 ≤ K) ∧ (tA s 142 e = nI n2 ∧ SxR D M s 134 V K N 200 0 (mX M 127 e) n2 ∧ PH s 200 n2 ≤ 200 ∧ PS s 200 n2 ≤ K) ∧ ∀ u, u < 180 → ((OcU s 200 n1 u ∨ OcU s 200 n2 u) → mA M 132 (180 * e + u) = 1 ∧ tA s 202 (200 * e + u) = 1) ∧ (¬ (OcU s 200 n1 u ∨ OcU s 200 n2 u) → mA M 132 (180 * e + u) = 0 ∧ tA s 202 (200 * e + u) = 0)
def EqW (M : CM) (s : TS) (e : Nat) : Prop := ∀ u, u < 180 → mA M 132 (180 * e + u) = 0 ∧ tA s 202 (200 * e + u) = 0
def IdxR (V E U S K N : Nat) (D : FQ) (M : CM) (s : TS) : Prop :=
  (ArS 133 134 40000 D M K ∧ mR M 69 1 = 133) ∧ (mI M 65 1 = nI S ∧ tI s 143 = nI S ∧ S ≤ 180 ∧ E ≤ S) ∧ UkR V M s U ∧ (tI s 126 = nI N ∧ 1 ≤ N ∧ N ≤ 12001 + K ∧ tL s 203 = n64 K) ∧
  (∀ e, e < S → (mA M 128 e = tA s 180 e ∧ (tA s 180 e = 0 ∨ tA s 180 e = 1)) ∧ (tA s 180 e = 0 → EqI D M s V K N e) ∧ (tA s 180 e = 1 → EqW M s e)) ∧
  (∀ e, e < S → mA M 129 e = tA s 194 e ∧ mA M 130 e = tA s 195 e ∧ (tA s 194 e = -1 ∨ ∃ d, d < S ∧ tA s 194 e = nI d)) ∧ tI s 0 = 0 ∧ (tI s 129 = 0 ∧ tI s 130 = 0) ∧ (∀ e u, e < S → U ≤ u → u < 180 → tA s 202 (200 * e + u) = 0) ∧ ∀ e, e < S → tA s 180 e = 0 → UX s U (ix (tA s 141 e)) ∧ UX s U (ix (tA s 142 e))
/-- all unknowns of an equation have derivatives -/
def HdE (M : CM) (s : TS) (g : Nat) : Prop := ∀ u, u < 180 → ¬ tA s 202 (200 * g + u) = 0 → ∃ d, (tA s 189 u = nI d ∧ d < 180) ∧ mA M 121 u = nI d
def kDe (g : Nat) (p : Int32) (M : CM) : Option ((Int32 ⊕ Nat) × CM) := obS (K_X0_diff (mX M 126 g) M) (fun w M => some (.inr w, M)) fun r42 M41 => obS (K_X0_diff (mX M41 127 g) M41) (fun w M => some (.inr w, M)) fun r48 M47 => K_X0_newEquation r42 r48 (nI g) p M47
section DIFFE2
variable {D D' D2 : FQ} {M M' M2 : CM} {s s' sL sR : TS} {V E U S K K' N N' NL NR g n1 n2 e a : Nat} {p : Int32}
theorem EqI.mv (h : EqI D M s V K N e) (g : SnK D M D' M' 134 K) (x : NdX s s' N) (hK : K ≤ K') (hN : N ≤ N') (h7 : N ≤ 70000) (x6 : mX M' 126 e = mX M 126 e) (x7 : mX M' 127 e = mX M 127 e) (t1 : tA s' 141 e = tA s 141 e) (t2 : tA s' 142 e = tA s 142 e) (r : ∀ u, u < 180 → mA M' 132 (180 * e + u) = mA M 132 (180 * e + u)) (t : ∀ u, u < 180 → tA s' 202 (200 * e + u) = tA s 202 (200 * e + u)) : EqI D' M' s' V K' N' e := by
  obtain ⟨n1, n2, ⟨a1, a2, a3, a4⟩, ⟨b1, b2, b3, b4⟩, c⟩ := h
  have w1 := SxR.tw _ _ _ _ a2
  have w2 := SxR.tw _ _ _ _ b2
  have p1 := TwT.ps x h7 200 200 0 n1 (Nat.le_refl _) w1
  have p2 := TwT.ps x h7 200 200 0 n2 (Nat.le_refl _) w2
  refine ⟨n1, n2, ⟨t1.trans a1, by rw [x6]; exact SxR.mv g x hK hN h7 _ _ _ _ _ (Nat.le_refl _) a2, by rw [p1.2]; exact a3, by rw [p1.1]; omega⟩, ⟨t2.trans b1, by rw [x7]; exact SxR.mv g x hK hN h7 _ _ _ _ _ (Nat.le_refl _) b2, by rw [p2.2]; exact b3, by rw [p2.1]; omega⟩, fun u hu => ?_⟩
  rw [OcU.nd h7 x _ _ _ _ w1, OcU.nd h7 x _ _ _ _ w2, r u hu, t u hu]
  exact c u hu
/-- the component: two derivatives -/
theorem k_two (hV : V ≤ 96) (h7 : NL ≤ 70000 ∧ NR ≤ 70000) (A : ArS 133 134 40000 D M K) (r69 : mR M 69 1 = 133) (x1 : SxR D M sL 134 V K NL 200 0 (mX M 126 g) n1) (ph1 : PH sL 200 n1 ≤ 200) (dk1 : DnK sL M 200 n1) (x2 : SxR D M sR 134 V K NR 200 0 (mX M 127 g) n2) (ph2 : PH sR 200 n2 ≤ 200) (dk2 : DnK sR M 200 n2) :
    (∃ w M', kDe g p M = some (.inr w, M') ∧ FlA 133 134 40000 D M K w M' ∧ (40000 < K + dS sL 200 n1 + dS sR 200 n2 ∨ 200 < dH sL 200 n1 ∨ 200 < dH sR 200 n2)) ∨
    ((K + dS sL 200 n1 + dS sR 200 n2 ≤ 40000 ∧ dH sL 200 n1 ≤ 200 ∧ dH sR 200 n2 ≤ 200) ∧ ∃ a1 a2 D2 M2 K2, kDe g p M = K_X0_newEquation a1 a2 (nI g) p M2 ∧ ArS 133 134 40000 D2 M2 K2 ∧ StA 133 134 D M K D2 M2 K2 ∧ K2 = K + dS sL 200 n1 + dS sR 200 n2 ∧ QD sL V NL 200 n1 D2 M2 K2 a1 ∧ QD sR V NR 200 n2 D2 M2 K2 a2) := by
  have hx := NdS2.one
  unfold kDe
  rcases k_diff hV h7.1 200 300 _ n1 D M K (by decide) (by decide) A r69 x1 ph1 dk1 with ⟨a1, D1, M1, K1, b0, A1, S1, e1, q1⟩ | ⟨w, M', b0, fl, c⟩
  · have s1 := fun {o} (ho : o < 133) => S1.s1 hx A.2.2.1 ho
    have x2' : SxR D1 M1 sR 134 V K1 NR 200 0 (mX M1 127 g) n2 := by
      rw [(s1 (o := 127) (by decide)).x]
      exact SxR.mv (S1.sn hx A) NdX.rf S1.1 (Nat.le_refl _) h7.2 _ _ _ _ _ (Nat.le_refl _) x2
    have dk2' : DnK sR M1 200 n2 := fun u o => by
      obtain ⟨d, d1, d2⟩ := dk2 u o
      exact ⟨d, d1, by rw [(s1 (o := 121) (by decide)).a]; exact d2⟩
    rcases k_diff hV h7.2 200 300 _ n2 D1 M1 K1 (by decide) (by decide) A1 (by rw [(s1 (o := 1) (by decide)).r]; exact r69) x2' ph2 dk2' with ⟨a2, D2, M2, K2, b2, A2, S2, e2, q2⟩ | ⟨w, M', b2, fl, c⟩
    · right
      have k4 := A2.2.2.2.1.2.2
      refine ⟨⟨by omega, q1.2.2.1.2, q2.2.2.1.2⟩, a1, a2, D2, M2, K2, ?_, A2, S1.tr S2, by omega, q1.sn (S2.sn hx A1) S2.1, q2⟩
      rw [show K_X0_diff (mX M 126 g) M = some (.inl a1, M1) from b0, obS_inl, show K_X0_diff (mX M1 127 g) M1 = some (.inl a2, M2) from b2, obS_inl]
    · left
      refine ⟨w, M', ?_, fl.pre S1, ?_⟩
      · rw [show K_X0_diff (mX M 126 g) M = some (.inl a1, M1) from b0, obS_inl, show K_X0_diff (mX M1 127 g) M1 = some (.inr w, M') from b2, obS_inr]
      · rcases c with c | c
        · exact Or.inl (by omega)
        · exact Or.inr (Or.inr c)
  · left
    refine ⟨w, M', by rw [show K_X0_diff (mX M 126 g) M = some (.inr w, M') from b0, obS_inr], fl, ?_⟩
    rcases c with c | c
    · exact Or.inl (by omega)
    · exact Or.inr (Or.inl c)
theorem z_diffe (hV : V ≤ 96) (h : IdxR V E U S K N D M s) (hg : g < S) (g0 : tA s 180 g = 0) (hd : HdE M s g) (hp : mI M 605 133 = p) :
    (∃ w M' s', kDe g p M = some (.inr w, M') ∧ F_differentiate (nI g) s = some ((), s') ∧ FlA 133 134 40000 D M K w M' ∧ Ft dfS s s' ∧ tI s' 0 = 52 ∧ tI s' 1 = tI s 204 ∧ Nd5 s s' N) ∨
    (S < 180 ∧ ∃ D2 M3 K2 s' N2, kDe g p M = some (.inl (nI S), M3) ∧ F_differentiate (nI g) s = some ((), s') ∧ IdxR V E U (S + 1) K2 N2 D2 (mwA M3 129 g (nI S)) s' ∧ (tA s' 180 S = 0 ∧ (∀ j, j < S → tA s' 180 j = tA s 180 j)) ∧ (tA s' 194 g = nI S ∧ tA s' 194 S = -1 ∧ ∀ j, j < S → j ≠ g → tA s' 194 j = tA s 194 j) ∧ SvR [65] [128, 129, 130, 131, 132] D M D2 (mwA M3 129 g (nI S)) ∧ Ft dfS s s' ∧ (NdX s s' N ∧ N ≤ N2 ∧ SnK D M D2 (mwA M3 129 g (nI S)) 134 K ∧ K ≤ K2) ∧ (mI (mwA M3 129 g (nI S)) 605 133 = p ∧ (∀ a j, (a = 138 ∨ a = 139) → mA (mwA M3 129 g (nI S)) a j = mA M a j) ∧ ∀ j, j < 200 * S → tA s' 202 j = tA s 202 j)) := by
  obtain ⟨⟨A, r69⟩, ⟨m65, t143, S180, hE⟩, uk, ⟨t126, N1', N2', t203⟩, eqs, dv, t0, tz, rb, uwE⟩ := id h
  have hx := NdS2.one
  have kX := A.2.2.2.1.2.2
  have h7 : N ≤ 70000 := by omega
  obtain ⟨-, q, -⟩ := eqs g hg
  obtain ⟨n1, n2, ⟨a1, a2, a3, a4⟩, ⟨b1, b2, b3, b4⟩, c⟩ := q g0
  have w1 := SxR.tw _ _ _ _ a2
  have w2 := SxR.tw _ _ _ _ b2
  have du : ∀ u, (OcU s 200 n1 u ∨ OcU s 200 n2 u) → ∃ d, (tA s 189 u = nI d ∧ d < 180) ∧ mA M 121 u = nI d := fun u o => by
    have lt : u < 180 := o.elim (OcU.lt _ _ _) (OcU.lt _ _ _)
    exact hd u lt (by rw [((c u lt).1 o).2]; decide)
  have dn1 : DnU s 200 n1 := fun u o => by
    obtain ⟨d, d1, -⟩ := du u (Or.inl o)
    exact ⟨d, d1⟩
  have dn2 : DnU s 200 n2 := fun u o => by
    obtain ⟨d, d1, -⟩ := du u (Or.inr o)
    exact ⟨d, d1⟩
  rcases t_diffe ⟨t143, S180⟩ hg ⟨t126, N1', N2'⟩ ⟨t203, kX⟩ t0 tz a1 b1 w1 w2 dn1 dn2 ⟨by omega, by omega⟩ with ⟨e180, s', r1, r2, r3, r4⟩ | ⟨S1, s11, N1, ⟨x11, l1, l7, fA, e189⟩, q⟩
  · left
    rcases k_two (p := p) hV ⟨h7, h7⟩ A r69 a2 a3 (fun u o => du u (Or.inl o)) b2 b3 (fun u o => du u (Or.inr o)) with ⟨w, M', k1, k2, -⟩ | ⟨-, c1, c2, D2, M2, K2, k1, A2, S2, -, -, -⟩
    · exact ⟨w, M', s', k1, r1, k2, r2, r3, r4⟩
    · have cN : mn M2 ≤ rmN D2 M2 := Nat.le_add_right _ _
      have cS : ms M2 ≤ rmS D2 M2 := Nat.le_add_right _ _
      have rm := A2.2.2.2.2
      have hn := A2.2.2.1
      refine ⟨mn M2, wM M2 52 p, s', ?_, r1, ⟨D2, M2, K2, A2, S2, rfl, by rw [hp]⟩, r2, r3, r4⟩
      rw [k1]
      exact k_newEqb (by rw [(S2.s1 hx A.2.2.1 (o := 1) (by decide)).i, m65, e180]) ⟨by omega, by omega, by omega⟩ c1 c2 (nI g) p
  · have f4 : Ft [143, 180] s (dfA s S) := ((Ft.rf _ s).p_tsI rfl).p_tsA rfl
    have x4 : NdX s (dfA s S) N := NdX.ft f4 rfl
    have xs11 := x4.tr x11 (Nat.le_refl _)
    have x1' : SxR D M (dfA s S) 134 V K N 200 0 (mX M 126 g) n1 := SxR.mv SnK.rf x4 (Nat.le_refl _) (Nat.le_refl _) h7 _ _ _ _ _ (Nat.le_refl _) a2
    have x2' : SxR D M s11 134 V K N1 200 0 (mX M 127 g) n2 := SxR.mv SnK.rf xs11 (Nat.le_refl _) l1 h7 _ _ _ _ _ (Nat.le_refl _) b2
    have ph1 : PH (dfA s S) 200 n1 ≤ 200 := by rw [(TwT.ps x4 h7 200 200 0 n1 (Nat.le_refl _) w1).2]; exact a3
    have ph2 : PH s11 200 n2 ≤ 200 := by rw [(TwT.ps xs11 h7 200 200 0 n2 (Nat.le_refl _) w2).2]; exact b3
    have dk1 : DnK (dfA s S) M 200 n1 := fun u o => by
      obtain ⟨d, d1, d2⟩ := du u (Or.inl ((OcU.nd h7 x4 _ _ _ _ w1).mp o))
      exact ⟨d, ⟨((f4 189 rfl).2.2.1 u).trans d1.1, d1.2⟩, d2⟩
    have dk2 : DnK s11 M 200 n2 := fun u o => by
      obtain ⟨d, d1, d2⟩ := du u (Or.inr ((OcU.nd h7 xs11 _ _ _ _ w2).mp o))
      exact ⟨d, ⟨(e189 u).trans d1.1, d1.2⟩, d2⟩
    rcases k_two (p := p) hV ⟨h7, l7⟩ A r69 x1' ph1 dk1 x2' ph2 dk2 with ⟨w, M', k1, k2, k3⟩ | ⟨⟨k1, k2, k3⟩, c1, c2, D2, M2, K2, kd, A2, S2, eK, Q1, Q2⟩
    · left
      rcases q with ⟨-, s', r1, r2, r3, r4⟩ | ⟨⟨g1, g2, g3⟩, -⟩
      · exact ⟨w, M', s', k1, r1, k2, r2, r3, r4⟩
      · exfalso
        rcases k3 with k3 | k3 | k3 <;> omega
    · rcases q with ⟨cc, -⟩ | ⟨-, s', N2, m1, m2, run, fS, G⟩
      · exfalso
        rcases cc with cc | ⟨-, cc | cc | cc⟩ <;> omega
      · right
        obtain ⟨⟨i0, i143, i126, ⟨l1', l2', l3', l4'⟩, i203⟩, ⟨xs, x11s⟩, v141, v142, v180, v194, v195, ⟨de1, de2, z1, z2⟩, rows, rowsO⟩ := G
        have h72 : N2 ≤ 70000 := by omega
        have lN : N ≤ N2 := by omega
        have X1 := Q1.2.2.2 s' N2 m1 ((NdX.ft f4.sy rfl).tr xs (Nat.le_refl _)) lN h72 de1
        have X2 := Q2.2.2.2 s' N2 m2 x11s l3' h72 de2
        have Y1 : SxR D2 M2 s' 134 V K2 N2 200 0 c1 m1 := SxR.low h72 602 200 0 c1 m1 X1 (by rw [(TwT.pe h72 (SxR.tw _ _ _ _ X1) z1.1).2, z1.2.2]; exact k2)
        have Y2 : SxR D2 M2 s' 134 V K2 N2 200 0 c2 m2 := SxR.low h72 602 200 0 c2 m2 X2 (by rw [(TwT.pe h72 (SxR.tw _ _ _ _ X2) z2.1).2, z2.2.2]; exact k3)
        have s1 := fun {o} (ho : o < 133) => S2.s1 hx A.2.2.1 ho
        have m65' : mI M2 65 1 = nI S := by rw [(s1 (o := 1) (by decide)).i]; exact m65
        have k18 : ∀ {a n}, SxR D2 M2 s' 134 V K2 N2 200 0 a n → mk M2 a = 18 := fun z => by
          obtain ⟨⟨j, j1, j2⟩, -⟩ := z.nb
          rw [j2]; exact (A2.k18 hx j1).1
        obtain ⟨M3, d1, d2, d3, d4⟩ := k_newEq (D := D2) (P := OcU s' 200 m1) (Q := OcU s' 200 m2) (x1 := c1) (x2 := c2) (x3 := nI g) (x4 := p) ⟨m65', S1⟩ ⟨Or.inr (k18 Y1), Or.inr (k18 Y2)⟩ (fun M' g => k_mark A2 S1 h72 200 300 0 c1 m1 M' (by decide) Y1 g) (fun M' g => k_mark A2 S1 h72 200 300 0 c2 m2 M' (by decide) Y2 g) (fun u z => z.elim (OcU.lt _ _ _) (OcU.lt _ _ _))
        obtain ⟨M4, hM4⟩ : ∃ q, q = mwA M3 129 g (nI S) := ⟨_, rfl⟩
        have k4 : KE D2 M2 M4 := by rw [hM4]; exact d2.wA rfl ⟨by decide, by decide⟩
        have nd2 : ∀ j, j < K2 → 167 ≤ (pl D2 134).getD j 0 := fun j hj => (A2.1.2.1 134 (by decide) j (by have := A2.2.2.2.1.2.1; omega)).2.1.1
        have sn4 : SnK D2 M2 D2 M4 134 K2 := fun j hj => ⟨rfl, fun f => by rw [hM4]; exact d4 f _ (by have := nd2 j hj; omega), fun f => k4.r rfl _⟩
        have sn : SnK D M D2 M4 134 K := (S2.sn hx A).tr sn4 S2.1
        have mX4 : ∀ o j, mX M4 o j = mX M3 o j := fun o j => by rw [hM4]; rfl
        have mA4 : ∀ o j, o ≠ 129 → mA M4 o j = mA M3 o j := fun o j ho => by rw [hM4, mA_mwA, ifF (fun z => ho z.1)]
        have s138 : ∀ o, (o = 138 ∨ o = 139) → So M M2 o := fun o ho => S2.so (by have := A.2.2.1; omega) (fun z => by
          rw [tgo_s (by omega)] at z
          unfold ArT tg at z; omega)
        have uk' : UkR V M4 s' U := by
          refine uk.mv ?_ (fS 197 rfl).1 (fun u => ?_) (fun u => ⟨(fS 179 rfl).2.2.1 u, (fS 187 rfl).2.2.1 u, (fS 188 rfl).2.2.1 u, (fS 189 rfl).2.2.1 u⟩)
          · rw [hM4]; show mI M3 57 1 = _
            rw [d2.i rfl, (s1 (o := 1) (by decide)).i]
          · rw [k4.ga rfl, k4.ga rfl, k4.ga rfl, (s1 (o := 119) (by decide)).a, (s1 (o := 120) (by decide)).a, (s1 (o := 121) (by decide)).a]
            exact ⟨rfl, rfl, rfl⟩
        refine ⟨S1, D2, M3, K2, s', N2, kd.trans d1, run, ?_, ⟨by rw [v180, ifT rfl], fun j hj => by rw [v180, ifF (by omega)]⟩, ⟨by rw [v194, ifT rfl], by rw [v194, ifF (by omega), ifT rfl], fun j hj hne => by rw [v194, ifF hne, ifF (by omega)]⟩, ?_, fS, ⟨xs, lN, by rw [← hM4]; exact sn, S2.1⟩, ?_, fun a j ha => ?_, fun j hj => rowsO j (by omega)⟩
        · rw [← hM4]
          refine ⟨⟨A2.kf k4 rfl rfl rfl, by rw [k4.r rfl, (s1 (o := 1) (by decide)).r]; exact r69⟩, ⟨by rw [hM4]; exact d3.1, i143, by omega, by omega⟩, uk', ⟨i126, by omega, by omega, by rw [i203, eK]⟩, fun e he => ?_, fun e he => ?_, i0, ⟨(fS 129 rfl).1.trans tz.1, (fS 130 rfl).1.trans tz.2⟩, fun e u he h1 h2 => ?_, fun e he z0 => ?_⟩
          · by_cases y : e = S
            · subst y
              refine ⟨⟨by rw [mA4 _ _ (by decide), d3.2.2.2.1, ifT rfl, v180, ifT rfl], Or.inl (by rw [v180, ifT rfl])⟩, fun _ => ⟨m1, m2, ⟨by rw [v141, ifT rfl], ?_, by rw [z1.2.2]; exact k2, by rw [z1.2.1]; omega⟩, ⟨by rw [v142, ifT rfl], ?_, by rw [z2.2.2]; exact k3, by rw [z2.2.1]; omega⟩, fun u hu => ?_⟩, fun z => ?_⟩
              · rw [mX4, d3.2.1, ifT rfl]
                exact SxR.mv sn4 NdX.rf (Nat.le_refl _) (Nat.le_refl _) h72 _ _ _ _ _ (Nat.le_refl _) Y1
              · rw [mX4, d3.2.2.1, ifT rfl]
                exact SxR.mv sn4 NdX.rf (Nat.le_refl _) (Nat.le_refl _) h72 _ _ _ _ _ (Nat.le_refl _) Y2
              · obtain ⟨y1, y2⟩ := d3.2.2.2.2.2.2.2.1 u hu
                obtain ⟨y3, y4⟩ := rows u (by omega)
                rw [mA4 _ _ (by decide)]
                exact ⟨fun z => ⟨y1 z, y3 z⟩, fun z => ⟨y2 z, y4 z⟩⟩
              · rw [v180, ifT rfl] at z; exact absurd z (by decide)
            · obtain ⟨p1, p2, p3⟩ := eqs e (by omega)
              have ro : ∀ u, u < 180 → mA M4 132 (180 * e + u) = mA M 132 (180 * e + u) := fun u hu => by
                rw [mA4 _ _ (by decide), d3.2.2.2.2.2.2.2.2 _ (by omega), (s1 (o := 132) (by decide)).a]
              have rt : ∀ u, u < 180 → tA s' 202 (200 * e + u) = tA s 202 (200 * e + u) := fun u hu => rowsO _ (by omega)
              have e180' : tA s' 180 e = tA s 180 e := by rw [v180, ifF y]
              refine ⟨⟨by rw [mA4 _ _ (by decide), d3.2.2.2.1, ifF y, (s1 (o := 128) (by decide)).a, e180']; exact p1.1, by rw [e180']; exact p1.2⟩, fun z => ?_, fun z => ?_⟩
              · refine (p2 (e180'.symm.trans z)).mv sn xs S2.1 lN h7 ?_ ?_ ?_ ?_ ro rt
                · rw [mX4, d3.2.1, ifF y, (s1 (o := 126) (by decide)).x]
                · rw [mX4, d3.2.2.1, ifF y, (s1 (o := 127) (by decide)).x]
                · rw [v141, ifF y]
                · rw [v142, ifF y]
              · intro u hu
                rw [ro u hu, rt u hu]
                exact p3 (e180'.symm.trans z) u hu
          · have m129 : ∀ j, mA M4 129 j = if j = g then nI S else if j = S then -1 else mA M 129 j := fun j => by
              rw [hM4, mA_mwA]
              by_cases y : j = g
              · rw [ifT ⟨rfl, y⟩, ifT y]
              · rw [ifF (fun z => y z.2), ifF y, d3.2.2.2.2.1, (s1 (o := 129) (by decide)).a]
            have m130 : mA M4 130 e = if e = S then nI g else mA M 130 e := by
              rw [mA4 _ _ (by decide), d3.2.2.2.2.2.1, (s1 (o := 130) (by decide)).a]
            rw [m129, m130, v194, v195]
            by_cases y : e = g
            · rw [ifT y, ifT y, ifF (by omega), ifF (by omega)]
              exact ⟨rfl, (dv e (by omega)).2.1, Or.inr ⟨S, by omega, rfl⟩⟩
            · rw [ifF y, ifF y]
              by_cases y2 : e = S
              · rw [ifT y2, ifT y2, ifT y2, ifT y2]
                exact ⟨rfl, rfl, Or.inl rfl⟩
              · rw [ifF y2, ifF y2, ifF y2, ifF y2]
                obtain ⟨q1, q2, q3⟩ := dv e (by omega)
                exact ⟨q1, q2, q3.imp id (fun ⟨d, e1, e2⟩ => ⟨d, by omega, e2⟩)⟩
          · by_cases y : e = S
            · subst y
              have ub : ∀ {n}, TwT s N 200 0 n → (∀ u, OcU s 200 n u → u < U ∧ ∀ d, tA s 189 u = nI d → d < 180 → d < U) → UB s' U n := fun t b H u o => by
                have o1 := OcU.dn h72 200 H 0 _ u (TwT.mv xs lN _ _ _ _ (Nat.le_refl _) t) o
                obtain ⟨q1, q2⟩ := b u ((OcU.nd h7 xs _ _ _ _ t).mp o1)
                exact ⟨q1, fun d => by rw [(fS 189 rfl).2.2.1]; exact q2 d⟩
              have low : ∀ u, (OcU s 200 n1 u ∨ OcU s 200 n2 u) → u < U ∧ ∀ d, tA s 189 u = nI d → d < 180 → d < U := fun u o => by
                have lt : u < 180 := o.elim (OcU.lt _ _ _) (OcU.lt _ _ _)
                have uU : u < U := by
                  by_cases q : u < U
                  · exact q
                  · exfalso
                    have a := rb g u hg (by omega) lt
                    rw [((c u lt).1 o).2] at a
                    exact absurd a (by decide)
                refine ⟨uU, fun d hd1 hd2 => ?_⟩
                rcases (uk.2 u uU).2.2.2 with q | ⟨w, -, w2, w3⟩
                · exact absurd (q.symm.trans hd1) (fun z => nI_m1 (by omega) z.symm)
                · have U180 := uk.1.2.2
                  rw [show d = w from nIq (hd1.symm.trans w3) (by omega) (by omega)]; exact w2
              have b1' := Der.ub h72 _ _ _ de1 (ub w1 (fun u o => low u (Or.inl o)))
              have b2' := Der.ub h72 _ _ _ de2 (ub w2 (fun u o => low u (Or.inr o)))
              refine (rows u (by omega)).2 (fun o => ?_)
              rcases o with o | o
              · have := b1' _ _ o; omega
              · have := b2' _ _ o; omega
            · rw [rowsO _ (by omega)]; exact rb e u (by omega) h1 h2
          · have fin : ∀ {n}, TwT s N 200 0 n → UX s U n → UX s' U n := fun t b => b.mv h7 (xs.nu (U := 0)) (fS 154 rfl).1 t (TwT.mv xs (Nat.le_refl _) _ _ _ _ (Nat.le_refl _) t)
            by_cases y : e = S
            · subst y
              obtain ⟨b1', b2'⟩ := uwE g hg g0
              have w1' := w1.nb
              have w2' := w2.nb
              have d1' := Der.mb _ _ _ de1
              have d2' := Der.mb _ _ _ de2
              rw [a1, ix_nI (by omega)] at b1'
              rw [b1, ix_nI (by omega)] at b2'
              rw [v141, ifT rfl, v142, ifT rfl, ix_nI (by omega), ix_nI (by omega)]
              exact ⟨Der.ux h72 de1 (fin w1 b1'), Der.ux h72 de2 (fin w2 b2')⟩
            · rw [v180, ifF y] at z0
              obtain ⟨p1, p2, p3⟩ := eqs e (by omega)
              obtain ⟨k1', k2', ⟨q1, q2, -⟩, ⟨q3, q4, -⟩, -⟩ := p2 z0
              have q2 := SxR.tw _ _ _ _ q2
              have q4 := SxR.tw _ _ _ _ q4
              have q2' := q2.nb
              have q4' := q4.nb
              obtain ⟨b1', b2'⟩ := uwE e (by omega) z0
              rw [q1, ix_nI (by omega)] at b1'
              rw [q3, ix_nI (by omega)] at b2'
              rw [v141, ifF y, v142, ifF y, q1, q3, ix_nI (by omega), ix_nI (by omega)]
              exact ⟨fin q2 b1', fin q4 b2'⟩
        · rw [← hM4]
          exact (SvR.sa S2 A.2.2.1 (by have := A2.2.2.2.1.2.2; omega)).tr (SvR.kf k4 rfl rfl ⟨rfl, rfl⟩ rfl)
        · rw [← hM4, k4.i rfl, S2.2.2.2.2.1.1 605 (by decide)]; exact hp
        · rw [← hM4, k4.ga (by rcases ha with rfl | rfl <;> rfl), (s138 a ha).a]
end DIFFE2
