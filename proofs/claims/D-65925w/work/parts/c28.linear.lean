/-! Layer B: a linear form, both sides -/
set_option maxRecDepth 100000
abbrev liI : List Nat := [4, 5, 85, 86, 90, 800, 3213, 3214, 3804]
abbrev liA : List Nat := [124, 125, 148, 149, 150, 152, 153, 154, 155, 156, 157, 165, 166]
abbrev liT : List Nat := [0, 1, 2, 3, 163, 165, 166, 167, 168, 169, 170, 171, 222, 225, 226, 227, 228, 229, 230, 231, 232, 233, 234, 235, 245]
/-- what a linear form or a steady state leaves -/
def LiO (V U Wn : Nat) (D : FQ) (M : CM) (σ : TS) (M' : CM) (σ' : TS) : Prop := (∃ n, n ≤ 2 ∧ RB D liI liA n M M') ∧ Ft liT σ σ' ∧ PaK V D σ M M' ∧ VaX V U Wn D M' σ' ∧ (mI M' 4 1 = tI σ' 2 ∧ mI M' 5 1 = tI σ' 3)
/-- the component's values are M's -/
def BkV (V Wn : Nat) (D : FQ) (M M2 : CM) : Prop := mI M2 85 1 = mI M 85 1 ∧ (∀ u, u < 180 → mA M2 124 u = mA M 124 u ∧ mA M2 125 u = mA M 125 u) ∧ (∀ v, v < V → mI M2 3213 ((pl D 98).getD v 0) = mI M 3213 ((pl D 98).getD v 0) ∧ mI M2 3214 ((pl D 98).getD v 0) = mI M 3214 ((pl D 98).getD v 0)) ∧ (∀ r, r < 24 → mA M2 148 r = mA M 148 r) ∧ ∀ j, j < Wn → mI M2 3804 ((pl D 113).getD j 0) = nZ (mI M 3804 ((pl D 113).getD j 0))
section LINEAR
variable {pq : Bool} {C C' : PC} {B : Nat} {P : Nat → Prop} {mss fss : List Nat} {V U S q A Wn K1 K2 N e r w v u b n i j k a m h wo nb t0 X ns : Nat} {D : FQ} {M M' M1 Mx M2 : CM} {σ σ' s σ1 s1 s2 : TS} {x x1 x2 x3 y z y1 y2 y3 : Int32} {I A0 T : List Nat}
theorem k_bkV (W : FW C B P mss fss D Mx s) (h15 : mI Mx 15 1 = nI V) (h39 : mI Mx 39 1 = nI Wn) (hV : V ≤ (pl D 98).length ∧ V ≤ 96) (hW : Wn ≤ (pl D 113).length ∧ Wn ≤ 12) (kk : KkR V Wn D M M1) (e : mI Mx 800 151 = mI M1 800 151 ∧ ∀ a, a ∈ [152, 153, 154, 155, 156, 157] → ∀ j, mA Mx a j = mA M1 a j) : ∃ M2, K_X0_back Mx = some ((), M2) ∧ KF D [85, 3213, 3214, 3804] [] [124, 125, 148] [] Mx M2 ∧ BkV V Wn D M M2 := by
  obtain ⟨M2, b1, b2, b3, b4, b5, b6, b7⟩ := k_back W h15 h39 hV hW
  obtain ⟨a3, a4, a5, a6, a7⟩ := kk
  obtain ⟨e1, e2⟩ := e
  refine ⟨M2, b1, b2, by rw [b3, e1, a3], fun u hu => ?_, fun v hv => ?_, fun r hr => ?_, fun j hj => ?_⟩
  · rw [(b4 u hu).1, (b4 u hu).2, e2 152 (by decide), e2 153 (by decide)]; exact a4 u hu
  · rw [(b5 v hv).1, (b5 v hv).2, e2 154 (by decide), e2 155 (by decide)]; exact a5 v hv
  · rw [b6 r hr, e2 156 (by decide)]; exact a6 r hr
  · rw [b7 j hj, e2 157 (by decide)]; exact a7 j hj
theorem va_bk (d : VaV V U Wn D M σ) (hU : U ≤ 180) (h154 : tI σ 154 = nI q) (hq : q ≤ 24) (bv : BkV V Wn D M M2) (sm : SmT V U q Wn σ σ') (f : Ft T σ σ') (hT : T.contains 94 = false ∧ T.contains 154 = false) : VaV V U Wn D M2 σ' := by
  obtain ⟨d1, d2, d3, d4, d5⟩ := d
  obtain ⟨b1, b2, b3, b4, b5⟩ := bv
  obtain ⟨⟨m1, m2, m3, m4, m5⟩, -⟩ := sm
  refine ⟨by rw [b1, m1]; exact d1, fun u hu => ?_, fun v hv z => ?_, fun r hr z => ?_, fun j hj => ?_⟩
  · rw [(b2 u (by omega)).1, (b2 u (by omega)).2, (m2 u hu).1, (m2 u hu).2]; exact d2 u hu
  · rw [(f 94 hT.1).2.2.1] at z
    rw [(b3 v hv).1, (b3 v hv).2, (m3 v hv).1, (m3 v hv).2]; exact d3 v hv z
  · rw [(f 154 hT.2).1] at z
    have rq : r < q := by rw [h154, bI_lt (by omega) (by omega)] at z; exact z
    rw [b4 r hr, m4 r rq]; exact d4 r hr z
  · obtain ⟨e1, e2⟩ := d5 j hj
    rw [b5 j hj, m5 j hj, e1, nZ_b e2]; exact ⟨rfl, e2⟩
/-- a linear form -/
theorem z_linear (w : RnW C B P mss fss V U S q A Wn K1 K2 N D M σ) (d : VaX V U Wn D M σ) (c1 : cN C + 2 ≤ 601024) (c2 : cS C + 16 ≤ 7293034) (h91 : ¬ mI M 91 1 = 0) (h110 : ¬ tI σ 110 = 0) (h92 : (mI M 92 1 = 0 ∧ tI σ 111 = 0) ∨ (¬ mI M 92 1 = 0 ∧ ¬ tI σ 111 = 0)) (h45 : mI M 4 1 = tI σ 2 ∧ mI M 5 1 = tI σ 3) (x1 x2 : Int32) : ∃ r M' σ', K_X0_linear x1 x2 M = some (r, M') ∧ F_linear x1 x2 σ = some (r, σ') ∧ LiO V U Wn D M σ M' σ' := by
  have stay : LiO V U Wn D M σ M σ := ⟨⟨0, by decide, KF.rf⟩, Ft.rf _ _, PaK.rf, d, h45⟩
  obtain ⟨ns, st⟩ := w.sta
  obtain ⟨⟨h74, h198, n24, -⟩, -⟩ := id st
  unfold K_X0_linear F_linear
  rw [ifF h91, ifF h110]
  rcases h92 with ⟨h92, h111⟩ | ⟨h92, h111⟩
  · rw [ifT h92, ifT h111]
    by_cases z1 : x1 < 0
    · rw [ifT z1, ifT z1]; exact ⟨_, _, _, rfl, rfl, stay⟩
    rw [ifF z1, ifF z1, h74, h198]
    by_cases z2 : x2 < 0
    · rw [ifT z2, ifT z2]
      by_cases z3 : nI ns ≤ x1
      · rw [ifT z3]; exact ⟨_, _, _, rfl, rfl, stay⟩
      · rw [ifF z3]; exact ⟨_, _, _, rfl, rfl, stay⟩
    rw [ifF z2, ifF z2]
    by_cases z3 : nI ns ≤ x1
    · rw [ifT z3, ifT z3]; exact ⟨_, _, _, rfl, rfl, stay⟩
    rw [ifF z3, ifF z3]
    by_cases z4 : x2 < nI ns
    · rw [ifT z4, ifT z4]
      -- both in range
      have e0 : (0 : Int32).toInt = 0 := rfl
      have en : (nI ns).toInt = ns := bI_toInt (by omega)
      obtain ⟨i, hi, hi2⟩ : ∃ i, x1 = nI i ∧ i < ns := by
        have a1 := Int32.le_iff_toInt_le.mp (Int32.not_lt.mp z1)
        have a2 := Int32.lt_iff_toInt_lt.mp (Int32.not_le.mp z3)
        refine ⟨x1.toInt.toNat, ?_, by omega⟩
        apply Int32.toInt_inj.mp
        rw [bI_toInt (by omega)]; omega
      obtain ⟨j, hj, hj2⟩ : ∃ j, x2 = nI j ∧ j < ns := by
        have a1 := Int32.le_iff_toInt_le.mp (Int32.not_lt.mp z2)
        have a2 := Int32.lt_iff_toInt_lt.mp z4
        refine ⟨x2.toInt.toNat, ?_, by omega⟩
        apply Int32.toInt_inj.mp
        rw [bI_toInt (by omega)]; omega
      subst hi; subst hj
      obtain ⟨⟨V96, V98, U180, -, q24, -⟩, ⟨h15, h107⟩, -, ⟨-, h154⟩, ⟨⟨h39, h148⟩, W12, Wl⟩, -⟩ := w.st
      have n167 := w.1.n167
      obtain ⟨M1, a1, a2, a3⟩ := k_keep w.1 h15 h39 ⟨V98, V96⟩ ⟨Wl, W12⟩
      obtain ⟨s3, hs3⟩ : ∃ Y, Y = tsI σ 0 0 := ⟨_, rfl⟩
      have f3 : Ft [0] σ s3 := by rw [hs3]; exact (Ft.rf _ σ).p_tsI rfl
      have h03 : tI s3 0 = 0 := by rw [hs3]; rfl
      have pk1 : PaK V D σ M M1 := PaK.of a2 rfl
      have w1 := w.kf a2 (by decide) (by decide) f3 (by decide) h03 pk1
      have d0 : VaX V U Wn D M s3 := ⟨h03, d.2.1.ft f3 (by decide), (f3 171 rfl).1.trans d.2.2.1, d.2.2.2.trans (f3 222 rfl).1.symm⟩
      have d1 : VaX V U Wn D M1 s3 := d0.up a2 (Ft.rf [] s3) (by decide) (by decide) (by decide)
      obtain ⟨g2, w2, d2⟩ := fl86 w1 d1 1 (Or.inr rfl)
      have k2 : KF D [86] [] [] [] M1 (msI M1 86 1 1) := KF.rf.wI rfl TZ.one
      obtain ⟨M2, hM2⟩ : ∃ Y, Y = msI M1 86 1 1 := ⟨_, rfl⟩
      rw [← hM2] at g2 w2 d2 k2
      have st2 : SaR ns U M2 s3 := (st.up a2 f3 rfl ⟨rfl, rfl⟩ (by decide)).up k2 (Ft.rf [] s3) rfl ⟨rfl, rfl⟩ rfl
      have g02 : RsK liI liA liT V D M σ M2 s3 := ⟨(a2.mono (by decide) (by decide) (by decide) (by decide)).tr (k2.mono (by decide) (by decide) (by decide) (by decide)), f3.mono (by decide), pk1.tr g2.2.2 (fun v => (f3 94 rfl).2.2.1 v)⟩
      rw [nm_eq, nm_eq, a1, ob_some, nm_eq, ← hM2, nm_eq, ← hs3]
      have e90 : mI M 90 1 = tI s3 222 := d0.2.2.2
      have vvM : VaV V U Wn D M s3 := d0.2.1
      rcases z_slope w2 d2 st2 hi2 hj2 with ⟨M3, s4, wo, y, ⟨k1, k4⟩, fo, sm⟩ | ⟨v, M3, s4, ⟨k1, k4⟩, g3, sm, ⟨w3, d3⟩, -, -⟩
      · -- a fault
        obtain ⟨n, r, ⟨n1, rb⟩, ⟨o1, o2, o3⟩, r0, ⟨e0', e1⟩, f, ⟨h171, h90⟩, pk⟩ := id fo
        obtain ⟨M4, hM4⟩ : ∃ Y, Y = msI (msI M3 4 1 (mI M3 1200 wo)) 5 1 (mI M3 1201 wo) := ⟨_, rfl⟩
        have k4' : KF D [4, 5] [] [] [] M3 M4 := by rw [hM4]; exact (KF.rf.wI rfl TZ.one).wI rfl TZ.one
        have rb4 : RB D rnI rnA n M2 M4 := RB.kf (k4'.mono (by decide) (by decide) (by decide) (by decide)) n (RB.mono (by decide) (by decide) n _ _ rb)
        obtain ⟨W4, -, -, i3, -, b3, -, -⟩ := FW.rb w2.1 n M4 rb4 (by omega) (by omega)
        obtain ⟨j3, -, c3, -, -⟩ := RbF.of n M3 rb
        have n167' : 167 ≤ mn M2 := w2.1.n167
        have e800 : mI M4 800 151 = mI M1 800 151 := by rw [k4'.i rfl, j3 800 151 (by omega) (by decide), k2.i rfl]
        have e152 : ∀ a, a ∈ [152, 153, 154, 155, 156, 157] → ∀ j, mA M4 a j = mA M1 a j := fun a ha j => by
          have q1 : ∀ a, a ∈ [152, 153, 154, 155, 156, 157] → a < 167 ∧ swA.contains a = false := by decide
          rw [k4'.ga rfl, c3 a j (by have := (q1 a ha).1; omega) (q1 a ha).2, k2.ga rfl]
        obtain ⟨M5, q1, q2, q3⟩ := k_bkV W4 (((i3 15 1 (by omega) (by decide)).trans (k2.i rfl 1)).trans ((a2.i rfl 1).trans h15)) (((i3 39 1 (by omega) (by decide)).trans (k2.i rfl 1)).trans ((a2.i rfl 1).trans h39)) ⟨V98, V96⟩ ⟨Wl, W12⟩ a3 ⟨e800, e152⟩
        obtain ⟨M6, hM6⟩ : ∃ Y, Y = msI M5 90 1 (mI M 90 1) := ⟨_, rfl⟩
        have k6 : KF D [90] [] [] [] M5 M6 := by rw [hM6]; exact KF.rf.wI rfl TZ.one
        obtain ⟨s5, hs5⟩ : ∃ Y, Y = tsI s4 222 (tI s3 222) := ⟨_, rfl⟩
        have f5 : Ft [222] s4 s5 := by rw [hs5]; exact (Ft.rf _ s4).p_tsI rfl
        have ne5 : tI s5 0 ≠ 0 := by rw [(f5 0 rfl).1]; exact fo.ne
        have f6 : Ft [0, 2, 3, 222] s4 (flT s5) := (f5.mono (by decide)).tr (flT_f.mono (by decide))
        have fa : Ft liT s3 (flT s5) := (f.mono (by decide)).tr (f6.mono (by decide))
        have k56 : KF D liI [] liA [] M4 M6 := (q2.mono (by decide) (by decide) (by decide) (by decide)).tr (k6.mono (by decide) (by decide) (by decide) (by decide))
        have sm' : SmT V U q Wn s3 (flT s5) := sm.tr (SmT.ft f6 (by decide))
        have va6 : VaV V U Wn D M6 (flT s5) := by
          obtain ⟨v1, v2, v3, v4, v5⟩ := va_bk vvM U180 ((f3 154 rfl).1.trans h154) q24 q3 sm' fa ⟨rfl, rfl⟩
          exact ⟨(k6.i rfl _).trans v1, fun u hu => by rw [k6.ga rfl, k6.ga rfl]; exact v2 u hu, fun v hv z => by rw [k6.i rfl, k6.i rfl]; exact v3 v hv z, fun r hr z => by rw [k6.ga rfl]; exact v4 r hr z, fun j hj => by rw [k6.i rfl]; exact v5 j hj⟩
        refine ⟨(-5 : Int32).toInt64 - 4294967296, M6, flT s5, ?_, ?_, ⟨n, n1, RB.pre g02.1 n _ (RB.kf k56 n (RB.kf (k4'.mono (by decide) (by decide) (by decide) (by decide)) n (RB.mono (by decide) (by decide) n _ _ rb)))⟩, (f3.mono (by decide)).tr fa, fun v hv z => ?_, ⟨rfl, va6, ?_, ?_⟩, ?_, ?_⟩
        · rw [k1, obS_inr, k_failW o2, ob_some, nm_eq, ← hM4, q1, ob_some, nm_eq, ← hM6]; rfl
        · rw [k4, ob_some, nm_eq, ← hs5, t_isBad1 ne5, ob_some, ifF (show ¬ (1 : Int32) = 0 by decide), t_faulted, ob_some]
        · rw [k6.i rfl]; exact (q3.2.2.1 v hv).1
        · rw [(f6 171 rfl).1]; exact h171
        · rw [hM6, mI_msI, ifT ⟨rfl, rfl⟩, e90, hs5]; rfl
        · rw [k6.i rfl, q2.i rfl, hM4, mI_msI, ifF (by omega), mI_msI, ifT ⟨rfl, rfl⟩, o3, ← e0', hs5]; rfl
        · rw [k6.i rfl, q2.i rfl, hM4, mI_msI, ifT ⟨rfl, rfl⟩, e1 rfl, hs5]; rfl
      · -- a number
        have e800 : mI M3 800 151 = mI M1 800 151 := by rw [g3.1.i rfl, k2.i rfl]
        have e152 : ∀ a, a ∈ [152, 153, 154, 155, 156, 157] → ∀ j, mA M3 a j = mA M1 a j := fun a ha j => by
          have q1 : ∀ a, a ∈ [152, 153, 154, 155, 156, 157] → swA.contains a = false := by decide
          rw [g3.1.ga (q1 a ha), k2.ga rfl]
        obtain ⟨M5, q1, q2, q3⟩ := k_bkV w3.1 (((g3.1.i rfl 1).trans (k2.i rfl 1)).trans ((a2.i rfl 1).trans h15)) (((g3.1.i rfl 1).trans (k2.i rfl 1)).trans ((a2.i rfl 1).trans h39)) ⟨V98, V96⟩ ⟨Wl, W12⟩ a3 ⟨e800, e152⟩
        obtain ⟨M6, hM6⟩ : ∃ Y, Y = msI M5 90 1 (mI M 90 1) := ⟨_, rfl⟩
        have k6 : KF D [90] [] [] [] M5 M6 := by rw [hM6]; exact KF.rf.wI rfl TZ.one
        obtain ⟨s5, hs5⟩ : ∃ Y, Y = tsI s4 222 (tI s3 222) := ⟨_, rfl⟩
        have f5 : Ft [222] s4 s5 := by rw [hs5]; exact (Ft.rf _ s4).p_tsI rfl
        have h05 : tI s5 0 = 0 := (f5 0 rfl).1.trans d3.1.1
        have fa : Ft liT s3 s5 := (g3.2.1.mono (by decide)).tr (f5.mono (by decide))
        have k36 : KF D liI [] liA [] M3 M6 := (q2.mono (by decide) (by decide) (by decide) (by decide)).tr (k6.mono (by decide) (by decide) (by decide) (by decide))
        have sm' : SmT V U q Wn s3 s5 := sm.tr (SmT.ft f5 (by decide))
        have va6 : VaV V U Wn D M6 s5 := by
          obtain ⟨v1, v2, v3, v4, v5⟩ := va_bk vvM U180 ((f3 154 rfl).1.trans h154) q24 q3 sm' fa ⟨rfl, rfl⟩
          exact ⟨(k6.i rfl _).trans v1, fun u hu => by rw [k6.ga rfl, k6.ga rfl]; exact v2 u hu, fun v hv z => by rw [k6.i rfl, k6.i rfl]; exact v3 v hv z, fun r hr z => by rw [k6.ga rfl]; exact v4 r hr z, fun j hj => by rw [k6.i rfl]; exact v5 j hj⟩
        have gk : KF D liI [] liA [] M M6 := (g02.1.tr (g3.1.mono (by decide) (by decide) (by decide) (by decide))).tr k36
        refine ⟨v.toInt64, M6, s5, ?_, ?_, ⟨0, by decide, gk⟩, (f3.mono (by decide)).tr fa, fun v hv z => ?_, ⟨h05, va6, ?_, ?_⟩, ?_, ?_⟩
        · rw [k1, obS_inl, nm_eq, q1, ob_some, nm_eq, ← hM6]
        · rw [k4, ob_some, nm_eq, ← hs5, t_isBad0 h05, ob_some, ifT (rfl : (0 : Int32) = 0)]
        · rw [k6.i rfl]; exact (q3.2.2.1 v hv).1
        · rw [(f5 171 rfl).1]; exact d3.2.2.2.2.1.1
        · rw [hM6, mI_msI, ifT ⟨rfl, rfl⟩, e90, hs5, tI_tsI, ifT rfl]
        · rw [k6.i rfl, q2.i rfl, g3.1.i rfl, k2.i rfl, a2.i rfl, (f5 2 rfl).1, (g3.2.1 2 rfl).1, (f3 2 rfl).1]; exact h45.1
        · rw [k6.i rfl, q2.i rfl, g3.1.i rfl, k2.i rfl, a2.i rfl, (f5 3 rfl).1, (g3.2.1 3 rfl).1, (f3 3 rfl).1]; exact h45.2
    · rw [ifF z4, ifF z4]; exact ⟨_, _, _, rfl, rfl, stay⟩
  · rw [ifF h92, ifF h111]; exact ⟨_, _, _, rfl, rfl, stay⟩
end LINEAR
