/-! Layer B: the flat model: instances within an instance, in order -/
set_option maxRecDepth 100000
section KIDS
variable {zb zb' : Nat} {C : PC} {D D' D1 D2 : FQ} {M M' M1 M2 M3 M0 : CM} {σ σ' σ1 σ2 σ0 s1 s8 : TS} {mss fss : List Nat} {B V I Bm K N K' N' E A Wn E' A' A0 Wn' v l x0 dc md X N0 Lp Lp' w d s i nf R a f h1 h2 eq L : Nat} {os : List Nat} {P T Y : Nat → Prop} {x2 x3 x3' x4 x y r kd : Int32} {z7 : Nat → Nat} {S : List Nat}
/-- instance q stands in n -/
def Kid (σ : TS) (I n q : Nat) : Prop := q < I ∧ tA σ 75 q = nI n
theorem kid_key (FX : FlX z7 C P D mss M σ V I Bm) {n q : Nat} (hn : n < I) (hq : Kid σ I n q) : ∃ b e x, (b < Bm ∧ tA σ 83 b = nI n ∧ tA σ 84 b = nI e) ∧ tA σ 76 q = nI e ∧ tA σ 77 q = nI x ∧ n < q ∧ EXr σ e x ∧ x ≤ 9 ∧ ∀ q', q' < q → tA σ 75 q' = nI n → (tA σ 76 q' = nI e → ∃ x', x' < x ∧ tA σ 77 q' = nI x') ∧ ∃ b', b' ≤ b ∧ tA σ 83 b' = nI n ∧ tA σ 84 b' = tA σ 76 q' := by
  have I200 := FX.2.1.2.1
  have hqI := hq.1
  obtain ⟨-, g2, -⟩ := FX.1.2.1 q hq.1
  rcases g2 with ⟨g3, -, g4⟩ | ⟨g3, p, b, e, ⟨g4, g5, g6⟩, ⟨g7, g8, g9, g10, g11⟩, x, x1, x2, x3, x4⟩
  · rw [hq.2] at g4
    exact absurd g4 (by
      intro z
      have := congrArg Int32.toInt z
      rw [bI_toInt (show n < 2147483648 by omega)] at this
      have e1 : Int32.toInt (-1) = -1 := by decide
      rw [e1] at this
      omega)
  · rw [hq.2] at g6
    have ep := (bI_eq (a := n) (b := p) (by omega) (by omega)).mp g6
    rw [← ep] at g8 x4 g4
    exact ⟨b, e, x, ⟨g7, g8, g9⟩, g10, x3, g4, x1.2, x1.1, x4⟩
theorem FlX.uq (hB1 : B ≤ 1280) (W : FW C B P mss fss D M σ) (FX : FlX z7 C P D mss M σ V I Bm) {n b c : Nat} (hn : n < I) (hb : b < Bm ∧ tA σ 83 b = nI n) (hc : c < Bm ∧ tA σ 83 c = nI n) (e : tA σ 84 b = tA σ 84 c) : b = c := by
  obtain ⟨⟨K0, ⟨L, WN0⟩, -⟩, ⟨-, -, -, c4⟩, -⟩ := id W.1
  obtain ⟨-, -, -, bs, b1, b2, b3, b4, b5, b6⟩ := FX.1.2.1 n hn
  obtain ⟨E58, e58, e59⟩ := W.1.2.2.2.2.2.2.1
  have m24 := W.1.2.2.2.2.1.1.1
  obtain ⟨n1, e1, q1, w1, -, ⟨a1, a2, -⟩, -, ⟨a3, a4, a5, a6⟩, -⟩ := FX.1.2.2.1 b hb.1
  obtain ⟨n2, e2, q2, w2, -, ⟨d1, d2, -⟩, -, ⟨d3, d4, d5, d6⟩, -⟩ := FX.1.2.2.1 c hc.1
  rw [a1, d1] at e
  rw [e58, ix_nI (by omega)] at a2 d2
  have ee := (bI_eq (by omega) (by omega)).mp e
  rw [← ee, a6] at d6
  have := (wc_inj WN0 a5 d5).mp d6
  exact b4 b c (b5 b hb.1 hb.2) (b5 c hc.1 hc.2) (by rw [a3, d3, this])
/-- members from b on: their instances are not below c -/
def OI (σ : TS) (I n b c : Nat) : Prop := (1 ≤ c ∧ c ≤ 1000) ∧ ∀ q, Kid σ I n q → (q < c ↔ ∃ b', b' < b ∧ tA σ 83 b' = nI n ∧ tA σ 84 b' = tA σ 76 q)
def xo (z j : Nat) : Nat := if z = 0 then 0 else j + 1
/-- of member b, instances from j on -/
def II (σ : TS) (I n b z j c : Nat) : Prop := (1 ≤ c ∧ c ≤ 1000) ∧ ∀ q, Kid σ I n q → (q < c ↔ (∃ b', b' < b ∧ tA σ 83 b' = nI n ∧ tA σ 84 b' = tA σ 76 q) ∨ (tA σ 84 b = tA σ 76 q ∧ ∃ j', j' < j ∧ tA σ 77 q = nI (xo z j')))
theorem OI.ii {n b c z : Nat} (h : OI σ I n b c) : II σ I n b z 0 c := ⟨h.1, fun q hq => by
  rw [h.2 q hq]
  exact ⟨Or.inl, fun z => by
    rcases z with z | ⟨-, j', z, -⟩
    · exact z
    · omega⟩⟩
/-- the next instance, and none before it -/
theorem II.next (hB1 : B ≤ 1280) (W : FW C B P mss fss D M σ) (FX : FlX z7 C P D mss M σ V I Bm) {n b z j c q : Nat} (hn : n < I) (h : II σ I n b z j c) (hb : b < Bm ∧ tA σ 83 b = nI n) (he : ∃ e, e < 480 ∧ tA σ 84 b = nI e ∧ tA σ 53 e = nI z ∧ z ≤ 9) (hj : j < many z) (hq : q < I ∧ Mtc σ b q ∧ tA σ 77 q = nI (xo z j)) : c ≤ q ∧ (∀ q', c ≤ q' → q' < q → ¬ tA σ 75 q' = nI n) ∧ II σ I n b z (j + 1) (q + 1) := by
  obtain ⟨e, e480, e84, e53, z9⟩ := he
  have I200 := FX.2.1.2.1
  have kq : Kid σ I n q := ⟨hq.1, by rw [hq.2.1.1]; exact hb.2⟩
  obtain ⟨bq, eq_, xq, ⟨k1, k2, k3⟩, k4, k5, k6, k7, k8, k9⟩ := kid_key FX hn kq
  have x10 : ∀ j, j < many z → xo z j ≤ 9 := fun j hj => by
    unfold xo
    unfold many at hj
    by_cases y : z = 0
    · rw [ifT y]; omega
    · rw [ifF y] at hj ⊢; omega
  have hm9 : many z ≤ 9 := by
    unfold many
    by_cases y : z = 0
    · rw [ifT y]; omega
    · rw [ifF y]; omega
  have q76 : tA σ 76 q = nI e := by rw [hq.2.1.2]; exact e84
  have ebq : bq = b := FX.uq hB1 W hn ⟨k1, k2⟩ hb (by rw [k3, ← k4, q76, e84])
  rw [ebq] at k1 k2 k3 k9
  have ee : eq_ = e := by
    rw [k4] at q76
    obtain ⟨E58, e58, e59⟩ := W.1.2.2.2.2.2.2.1
    have m24 := W.1.2.2.2.2.1.1.1
    have := k7.1.1
    rw [e58, ix_nI (by omega)] at this
    exact (bI_eq (by omega) (by omega)).mp q76
  rw [ee] at k3 k4 k7 k9
  have ex : xq = xo z j := by
    have := hq.2.2
    rw [k5] at this
    exact (bI_eq (by omega) (by have := x10 j hj; omega)).mp this
  have xz : ∀ x', EXr σ e x' → x' ≤ z ∧ (z = 0 ∨ 1 ≤ x') := fun x' hx => by
    obtain ⟨⟨-, z', u1, ⟨u0, u2⟩, u3⟩, -⟩ := hx
    have : z' = z := by
      rw [e53] at u1
      exact ((bI_eq (by omega) (by omega)).mp u1).symm
    rw [this] at u2 u3
    exact ⟨u2, u3⟩
  -- an instance of b is the j'-th
  have ofx : ∀ q', Kid σ I n q' → tA σ 76 q' = nI e → ∃ j', j' < many z ∧ tA σ 77 q' = nI (xo z j') := fun q' hq' h76 => by
    obtain ⟨b2, e2, x2, ⟨m1, m2, m3⟩, m4, m5, m6, m7, m8, -⟩ := kid_key FX hn hq'
    have eb : b2 = b := FX.uq hB1 W hn ⟨m1, m2⟩ hb (by rw [m3, ← m4, h76, e84])
    have e2e : e2 = e := by
      rw [m4] at h76
      obtain ⟨E58, e58, e59⟩ := W.1.2.2.2.2.2.2.1
      have m24 := W.1.2.2.2.2.1.1.1
      have := m7.1.1
      rw [e58, ix_nI (by omega)] at this
      exact (bI_eq (by omega) (by omega)).mp h76
    rw [e2e] at m7
    obtain ⟨w1, w2⟩ := xz x2 m7
    by_cases y : z = 0
    · refine ⟨0, by unfold many; rw [ifT y]; omega, ?_⟩
      rw [m5]; unfold xo; rw [ifT y, show x2 = 0 by omega]
    · refine ⟨x2 - 1, by unfold many; rw [ifF y]; omega, ?_⟩
      rw [m5]; unfold xo; rw [ifF y, show x2 - 1 + 1 = x2 by omega]
  have xoi : ∀ j1 j2, j1 < many z → j2 < many z → xo z j1 = xo z j2 → j1 = j2 := fun j1 j2 h1 h2 h3 => by
    unfold xo at h3
    unfold many at h1 h2
    by_cases y : z = 0
    · rw [ifT y] at h1 h2; omega
    · rw [ifF y, ifF y] at h3; omega
  have cq : c ≤ q := by
    rcases Nat.lt_or_ge q c with g | g
    · rcases (h.2 q kq).mp g with ⟨b', v1, v2, v3⟩ | ⟨-, j', v1, v2⟩
      · have := FX.uq hB1 W hn (c := b) ⟨(by omega : b' < Bm), v2⟩ hb (by rw [v3, hq.2.1.2])
        omega
      · rw [hq.2.2] at v2
        have := (bI_eq (by have := x10 j hj; omega) (by have := x10 j' (by omega); omega)).mp v2
        have := xoi j j' hj (by omega) this
        omega
    · exact g
  have none_ : ∀ q', c ≤ q' → q' < q → ¬ tA σ 75 q' = nI n := fun q' g1 g2 g3 => by
    have kq' : Kid σ I n q' := ⟨by omega, g3⟩
    obtain ⟨t1, b', t2, t3, t4⟩ := k9 q' g2 g3
    by_cases y : b' = b
    · have h76 : tA σ 76 q' = nI e := by rw [← t4, y, e84]
      obtain ⟨x', t5, t6⟩ := t1 h76
      obtain ⟨j', t7, t8⟩ := ofx q' kq' h76
      rw [t6] at t8
      have := (bI_eq (a := x') (by omega) (by have := x10 j' t7; omega)).mp t8
      have jj : j' < j := by
        rw [this, ex] at t5
        unfold xo at t5
        by_cases y0 : z = 0
        · rw [ifT y0, ifT y0] at t5; omega
        · rw [ifF y0, ifF y0] at t5; omega
      have := (h.2 q' kq').mpr (Or.inr ⟨by rw [← y, t4], j', jj, by rw [t6, this]⟩)
      omega
    · have := (h.2 q' kq').mpr (Or.inl ⟨b', by omega, t3, t4⟩)
      omega
  refine ⟨cq, none_, ⟨by omega, by have := hq.1; omega⟩, fun q' hq' => ⟨fun g => ?_, fun g => ?_⟩⟩
  · by_cases y : q' = q
    · exact Or.inr ⟨by rw [y]; exact hq.2.1.2.symm, j, Nat.lt_succ_self j, by rw [y]; exact hq.2.2⟩
    · have : q' < c := by
        rcases Nat.lt_or_ge q' c with g2 | g2
        · exact g2
        · exact absurd hq'.2 (none_ q' g2 (by omega))
      rcases (h.2 q' hq').mp this with g | ⟨g1, j', g2, g3⟩
      · exact Or.inl g
      · exact Or.inr ⟨g1, j', by omega, g3⟩
  · rcases g with g | ⟨g1, j', g2, g3⟩
    · have := (h.2 q' hq').mpr (Or.inl g); omega
    · by_cases y : j' < j
      · have := (h.2 q' hq').mpr (Or.inr ⟨g1, j', y, g3⟩); omega
      · have ej : j' = j := by omega
        rw [ej] at g3
        rcases Nat.lt_trichotomy q' q with g | g | g
        · omega
        · omega
        · exfalso
          obtain ⟨b2, e2, x2, ⟨m1, m2, m3⟩, m4, m5, m6, m7, m8, m9⟩ := kid_key FX hn hq'
          have eb : b2 = b := FX.uq hB1 W hn ⟨m1, m2⟩ hb (by rw [m3, ← m4, g1])
          have h76 : tA σ 76 q' = nI e := by rw [← g1, e84]
          have := (m9 q g kq.2).1 (by rw [k4, ← m4, h76])
          obtain ⟨x', v1, v2⟩ := this
          rw [m5] at g3
          rw [hq.2.2] at v2
          have a1 := (bI_eq (by omega) (by have := x10 j hj; omega)).mp g3
          have a2 := (bI_eq (by have := x10 j hj; omega) (by omega)).mp v2
          omega
/-- the member is done -/
theorem II.oi (hB1 : B ≤ 1280) (W : FW C B P mss fss D M σ) (FX : FlX z7 C P D mss M σ V I Bm) {n b b2 z c : Nat} (hn : n < I) (h : II σ I n b z (many z) c) (hb : b < Bm ∧ tA σ 83 b = nI n) (he : ∃ e, e < 480 ∧ tA σ 84 b = nI e ∧ tA σ 53 e = nI z ∧ z ≤ 9) (hb2 : b < b2 ∧ b2 ≤ Bm) (hno : ∀ b', b < b' → b' < b2 → ¬ tA σ 83 b' = nI n) : OI σ I n b2 c := by
  obtain ⟨e, e480, e84, e53, z9⟩ := he
  refine ⟨h.1, fun q hq => ⟨fun g => ?_, fun ⟨b', v1, v2, v3⟩ => ?_⟩⟩
  · rcases (h.2 q hq).mp g with ⟨b', v1, v2, v3⟩ | ⟨v1, -⟩
    · exact ⟨b', by omega, v2, v3⟩
    · exact ⟨b, hb2.1, hb.2, v1⟩
  · rcases Nat.lt_trichotomy b' b with g | g | g
    · exact (h.2 q hq).mpr (Or.inl ⟨b', g, v2, v3⟩)
    · rw [g] at v3
      refine (h.2 q hq).mpr (Or.inr ⟨v3, ?_⟩)
      obtain ⟨b2', e2, x2, ⟨m1, m2, m3⟩, m4, m5, m6, m7, m8, -⟩ := kid_key FX hn hq
      have e2e : e2 = e := by
        rw [← v3, e84] at m4
        obtain ⟨E58, e58, e59⟩ := W.1.2.2.2.2.2.2.1
        have m24 := W.1.2.2.2.2.1.1.1
        have := m7.1.1
        rw [e58, ix_nI (by omega)] at this
        exact ((bI_eq (by omega) (by omega)).mp m4).symm
      rw [e2e] at m7
      obtain ⟨⟨-, z', u1, ⟨u0, u2⟩, u3⟩, -⟩ := m7
      have ez : z' = z := by
        rw [e53] at u1
        exact ((bI_eq (by omega) (by omega)).mp u1).symm
      rw [ez] at u2 u3
      by_cases y : z = 0
      · refine ⟨0, by unfold many; rw [ifT y]; omega, ?_⟩
        rw [m5]; unfold xo; rw [ifT y, show x2 = 0 by omega]
      · refine ⟨x2 - 1, by unfold many; rw [ifF y]; omega, ?_⟩
        rw [m5]; unfold xo; rw [ifF y, show x2 - 1 + 1 = x2 by omega]
    · exact absurd v2 (hno b' g v1)
/-- a member without instances -/
theorem OI.skip (hB1 : B ≤ 1280) (W : FW C B P mss fss D M σ) (FX : FlX z7 C P D mss M σ V I Bm) {n b b2 c e : Nat} (hn : n < I) (h : OI σ I n b c) (he : tA σ 84 b = nI e ∧ e < 480) (hx : tB σ 51 e = 0 ∨ ¬ tA σ 52 e &&& 16 = 0) (hb2 : b < b2 ∧ b2 ≤ Bm) (hno : ∀ b', b < b' → b' < b2 → ¬ tA σ 83 b' = nI n) : OI σ I n b2 c := by
  refine ⟨h.1, fun q hq => ⟨fun g => ?_, fun ⟨b', v1, v2, v3⟩ => ?_⟩⟩
  · obtain ⟨b', v1, v2, v3⟩ := (h.2 q hq).mp g
    exact ⟨b', by omega, v2, v3⟩
  · rcases Nat.lt_trichotomy b' b with g | g | g
    · exact (h.2 q hq).mpr ⟨b', g, v2, v3⟩
    · exfalso
      rw [g] at v3
      obtain ⟨b2', e2, x2, ⟨m1, m2, m3⟩, m4, m5, m6, m7, m8, -⟩ := kid_key FX hn hq
      have e2e : e2 = e := by
        rw [← v3, he.1] at m4
        obtain ⟨E58, e58, e59⟩ := W.1.2.2.2.2.2.2.1
        have m24 := W.1.2.2.2.2.1.1.1
        have := m7.1.1
        rw [e58, ix_nI (by omega)] at this
        exact ((bI_eq (by omega) (by omega)).mp m4).symm
      rw [e2e] at m7
      rcases hx with hx | hx
      · exact m7.2.1 hx
      · exact hx m7.2.2
    · exact absurd v2 (hno b' g v1)
end KIDS
