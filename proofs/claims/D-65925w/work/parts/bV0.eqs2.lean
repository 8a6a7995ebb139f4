/-! Layer B: the equations are solved, both sides -/
set_option maxRecDepth 100000
/-- heads of variables are variables -/
def HdV (D : FQ) (M : CM) (V : Nat) : Prop := ∀ v, v < V → ∃ w, w < V ∧ mI M 3217 ((pl D 98).getD v 0) = nI w
def LpE (V E A Wn Kf N : Nat) (ze zf : Nat → Nat) (Db : FQ) (Mb : CM) (s0 : TS) (k : Nat) (D : FQ) (M : CM) (K : Nat) (s : TS) : Prop :=
  EnS 133 134 40000 Kf V s0 D M K ∧ ArS 135 136 30000 D M 0 ∧ FlQ V E A Wn Kf N D M s0 ∧ mI M 65 1 = nI k ∧ (tL s 203 = n64 K ∧ K ≤ 2 * (sumZ ze k + sumZ zf k)) ∧ (∀ e, e < k → EqT D M s0 s V K N e) ∧ RlS D Mb M s0 134 V K N (EqPs s0 N k) ∧ (Ft [201, 202, 203] s0 s ∧ ∀ e u, k ≤ e → e < E → u < 180 → tA s 202 (200 * e + u) = 0) ∧ SvR [65, 136, 605] [128, 129, 130, 131, 132] Db Mb D M ∧ (∀ j, mA M 128 j = mA Mb 128 j) ∧ HdV D M V
section EQS2
variable {S : List Nat} {s s' s0 : TS} {D D1 D2 Db : FQ} {M M' M1 M2 Mb : CM} {V K K1 K2 K' Kf N E A Wn n q e i k n1 n2 : Nat} {ze zf : Nat → Nat} {D' : FQ}
theorem NdS2.two : NdS2 135 136 30000 300 := Or.inr ⟨rfl, rfl, rfl, rfl⟩
theorem HdV.fr (h : HdV D M V) (g : FrQ D M D1 M1) (hV : V ≤ (pl D 98).length) : HdV D1 M1 V := fun v hv => by
  obtain ⟨w, w1, w2⟩ := h v hv
  exact ⟨w, w1, by rw [g.1 98 (by decide), (g.2.1 98 (by decide) v (by omega)).1 3217 (by decide)]; exact w2⟩
theorem sumZ_mono (z : Nat → Nat) : ∀ d k, sumZ z k ≤ sumZ z (k + d)
  | 0, _ => Nat.le_refl _
  | d + 1, k => Nat.le_trans (sumZ_mono z d k) (Nat.le_add_right _ _)
theorem EqT.mv (h : EqT D M s0 s V K N e) (g : SnK D M D' M' 134 K) (hK : K ≤ K') (h7 : N ≤ 70000) (x6 : mX M' 126 e = mX M 126 e) (x7 : mX M' 127 e = mX M 127 e) (a9 : mA M' 129 e = mA M 129 e) (a10 : mA M' 130 e = mA M 130 e) (a11 : mA M' 131 e = mA M 131 e) (r : ∀ u, u < 180 → mA M' 132 (180 * e + u) = mA M 132 (180 * e + u)) (t : ∀ u, u < 180 → tA s' 202 (200 * e + u) = tA s 202 (200 * e + u)) : EqT D' M' s0 s' V K' N e := by
  obtain ⟨h1, h2, h3, h4, h5⟩ := h
  refine ⟨fun z => ?_, fun z => ?_, a9.trans h3, a10.trans h4, a11.trans h5⟩
  · obtain ⟨n1, n2, ⟨p1, p2, p3⟩, ⟨q1, q2, q3⟩, w⟩ := h1 z
    rw [x6, x7]
    exact ⟨n1, n2, ⟨p1, SxR.mv g NdX.rf hK (Nat.le_refl _) h7 _ _ _ _ _ (Nat.le_refl _) p2, p3.1, Nat.le_trans p3.2 hK⟩, ⟨q1, SxR.mv g NdX.rf hK (Nat.le_refl _) h7 _ _ _ _ _ (Nat.le_refl _) q2, q3.1, Nat.le_trans q3.2 hK⟩, fun u hu => by rw [r u hu, t u hu]; exact w u hu⟩
  · obtain ⟨p1, p2, p3⟩ := h2 z
    exact ⟨x6.trans p1, x7.trans p2, fun u hu => by rw [r u hu, t u hu]; exact p3 u hu⟩
theorem UnS.eq (fq : FlQ V E A Wn Kf N D M s0) (hK : Kf ≤ 12000) (h7 : N ≤ 70000) (hk : k ≤ E) : UnS s0 (EqPs s0 N k) := fun m r ⟨e, n, he, _, hn, o⟩ i hr q => by
  obtain ⟨-, ⟨-, -, a3⟩, -⟩ := fq
  obtain ⟨n1, n2, ⟨p1, p2, p3, -⟩, q1, q2, q3, -⟩ := a3 e (by omega)
  have b1 := p2.nb
  have b2 := q2.nb
  rcases hn with hn | hn
  · have : n1 = n := nIq (p1.symm.trans hn) (by omega) o.lt.2
    subst this
    exact p3.un hK m r o i hr q
  · have : n2 = n := nIq (q1.symm.trans hn) (by omega) o.lt.2
    subst this
    exact q3.un hK m r o i hr q
theorem z_mkEqs (hV : V ≤ 96) (h7 : N ≤ 70000) (h0 : tI s0 0 = 0) (h144 : tI s0 144 = nI E) (hz : ∀ e, e < E → RtS s0 N 141 e (ze e) ∧ RtS s0 N 142 e (zf e)) (hs : sumZ ze E + sumZ zf E ≤ 12001) : ∀ (d k kf tf : Nat) (D : FQ) (M : CM) (K : Nat) (s : TS), k + d = E → d < kf → d < tf → LpE V E A Wn Kf N ze zf Db Mb s0 k D M K s → ∃ D' M' K' s', KL_X0_makeEquations_29 kf (nI k) M = some (.inl (), M') ∧ L_solve_146 tf (nI k) s = some ((), s') ∧ LpE V E A Wn Kf N ze zf Db Mb s0 E D' M' K' s' := by
  intro d
  induction d with
  | zero =>
    intro k kf tf D M K s hk hkf htf L
    obtain ⟨kf, rfl⟩ : ∃ g, kf = g + 1 := ⟨kf - 1, by omega⟩
    obtain ⟨tf, rfl⟩ : ∃ g, tf = g + 1 := ⟨tf - 1, by omega⟩
    obtain rfl : k = E := by omega
    obtain ⟨-, -, ⟨⟨m35, -⟩, ⟨E120, -⟩, -⟩, -, -, -, -, ⟨f, -⟩, -⟩ := id L
    have le : nI k ≤ nI k := (bI_le (by omega) (by omega)).mpr (Nat.le_refl _)
    refine ⟨D, M, K, s, ?_, ?_, L⟩
    · unfold KL_X0_makeEquations_29
      rw [m35, ifT le]
    · unfold L_solve_146
      rw [(f 144 rfl).1, h144, ifT le]
  | succ d ih =>
    intro k kf tf D M K s hk hkf htf L
    obtain ⟨kf, rfl⟩ : ∃ g, kf = g + 1 := ⟨kf - 1, by omega⟩
    obtain ⟨tf, rfl⟩ : ∃ g, tf = g + 1 := ⟨tf - 1, by omega⟩
    obtain ⟨e, B, fq, m65, ⟨t203, kb⟩, eqs, rl, ⟨f, fz⟩, sv, h128, hdv⟩ := id L
    obtain ⟨A0, r69, hKf, va⟩ := id e
    obtain ⟨⟨m35, -⟩, ⟨E120, E111, -⟩, -, -, gn⟩ := id fq
    obtain ⟨gk1, gk2⟩ := gn k (by omega)
    have hx := NdS2.one
    have le : ¬ nI E ≤ nI k := fun z => by have := (bI_le (by omega) (by omega)).mp z; omega
    have iK : inb (nI k) 180 := inb_nI' (by omega) (by decide)
    have xk : ix (nI k) = k := ix_nI (by omega)
    have nx : nI k + 1 = nI (k + 1) := nI_addL k 1
    have t0 : tI s 0 = 0 := (f 0 rfl).1.trans h0
    obtain ⟨Ma, hMa⟩ : ∃ q, q = msI M 605 133 (nI k) := ⟨_, rfl⟩
    have ka : KF D [605] [] [] [] M Ma := by rw [hMa]; exact KF.rf.wI rfl (by rw [tgo_s (by decide)]; exact Or.inr (Or.inl (by decide)))
    obtain ⟨eA, frA⟩ := e.kf ka rfl rfl rfl (fun _ => ka.ga rfl _) rfl
    have fqA := fq.fr frA hKf.1
    have BA : ArS 135 136 30000 D Ma 0 := B.kf ka rfl rfl rfl
    have nd167 : ∀ j, j < K → 167 ≤ (pl D 134).getD j 0 := fun j hj => (A0.1.2.1 134 (by decide) j (by have := A0.2.2.2.1.2.1; omega)).2.1.1
    have snA : SnK D M D Ma 134 K := fun j hj => ⟨rfl, fun f => by rw [hMa, mI_msI, ifF (by have := nd167 j hj; omega)], fun f => by rw [hMa]; rfl⟩
    have m65a : mI Ma 65 1 = nI k := by rw [ka.i rfl]; exact m65
    have svA : SvR [65, 136, 605] [128, 129, 130, 131, 132] Db Mb D Ma := sv.tr (SvR.kf ka rfl rfl ⟨rfl, rfl⟩ rfl)
    have g111 : ∀ {D M K}, ArS 133 134 40000 D M K → k < (pl D 111).length → K_J2_get 111 (nI k) M = some ((pl D 111).getD k 0, M) ∧ mk M ((pl D 111).getD k 0) = 19 := fun A h => ⟨ls_get (A.1.1 111 (by decide)).1 h, (A.1.2.1 111 (by decide) k h).1⟩
    have f144 : tI s 144 = nI E := (f 144 rfl).1.trans h144
    have f180 : tA s 180 k = tA s0 180 k := (f 180 rfl).2.2.1 k
    have i400 : inb (nI k) 400 := inb_nI' (by omega) (by decide)
    have U := UnS.eq (k := k) fq hKf.2.1 h7 (by omega)
    rcases gk2 with z0 | z1
    · -- an equation that stays
      have eqnA := fqA.2.1.2.2 k (by omega)
      obtain ⟨n1, -, ⟨p1, p2, p3, p4⟩, -⟩ := eqnA
      obtain ⟨⟨m1, r1, r2, r3⟩, m2, r4, r5, r6⟩ := hz k (by omega)
      have b1 := p2.nb
      have : m1 = n1 := nIq (r1.symm.trans p1) r3 (by omega)
      subst this
      have ps1 := NdR.ps hV h7 100 0 _ m1 _ p2 r2
      have mz := sumZ_mono ze (E - (k + 1)) (k + 1)
      have mf := sumZ_mono zf (E - (k + 1)) (k + 1)
      rw [show k + 1 + (E - (k + 1)) = E by omega] at mz mf
      have sz1 : sumZ ze (k + 1) = sumZ ze k + ze k := rfl
      have sf1 : sumZ zf (k + 1) = sumZ zf k + zf k := rfl
      rcases k_svT (E := False) hx hV h7 100 300 0 _ m1 D Ma K (by decide) (Nat.le_refl _) eA p2 p3 (fun _ => p4 z0) with ⟨a1, D1, M1, K1, c1, A1, S1, e1, x1, rl1⟩ | ⟨w, M', -, -, c3⟩
      rotate_left
      · exfalso
        rcases c3 with c3 | c3
        · omega
        · exact c3
      have fr1 := FrQ.sh S1 hx eA.1 A1
      have fq1 := fqA.fr fr1 hKf.1
      obtain ⟨eB, -⟩ := eA.mv (N := N) hx A1 S1
      have BB := (BA.ot NdS2.two S1 hx eA.1 A1 (by decide)).1
      have eqnB := fq1.2.1.2.2 k (by omega)
      obtain ⟨-, n2, -, q1, q2, q3, q4⟩ := eqnB
      have b2 := q2.nb
      have : m2 = n2 := nIq (r4.symm.trans q1) r6 (by omega)
      subst this
      have ps2 := NdR.ps hV h7 100 0 _ m2 _ q2 r5
      rcases k_svT (E := False) hx hV h7 100 300 0 _ m2 D1 M1 K1 (by decide) (Nat.le_refl _) eB q2 q3 (fun _ => q4 z0) with ⟨a2, D2, M2, K2, c2, A2, S2, e2, x2, rl2⟩ | ⟨w, M', -, -, c3⟩
      rotate_left
      · exfalso
        rcases c3 with c3 | c3
        · omega
        · exact c3
      have fr2 := FrQ.sh S2 hx A1 A2
      have hK1 : Kf ≤ (pl D1 106).length := eB.2.2.1.1
      have fq2 := fq1.fr fr2 hK1
      obtain ⟨eC, -⟩ := eB.mv (N := N) hx A2 S2
      have BC := (BB.ot NdS2.two S2 hx A1 A2 (by decide)).1
      have x1' : SxR D2 M2 s0 134 V K2 N 100 0 a1 m1 := SxR.mv (S2.sn hx A1) NdX.rf S2.1 (Nat.le_refl _) h7 _ _ _ _ _ (Nat.le_refl _) x1
      have o1 : So Ma M1 1 := S1.s1 hx eA.1.2.2.1 (by decide)
      have o2 : So M1 M2 1 := S2.s1 hx A1.2.2.1 (by decide)
      have m65c : mI M2 65 1 = nI k := by rw [o2.i, o1.i]; exact m65a
      have w1 := SxR.tw _ _ _ _ x1'
      have w2 := SxR.tw _ _ _ _ x2
      have k18 : ∀ {a n}, SxR D2 M2 s0 134 V K2 N 100 0 a n → mk M2 a = 18 := fun z => by
        obtain ⟨⟨j, j1, j2⟩, -⟩ := z.nb
        rw [j2]; exact (A2.k18 hx j1).1
      obtain ⟨M3, d1, d2, d3, d4⟩ := k_newEq (D := D2) (P := OcU s0 100 m1) (Q := OcU s0 100 m2) (x1 := a1) (x2 := a2) (x3 := -1) (x4 := nI k) ⟨m65c, by omega⟩ ⟨Or.inr (k18 x1'), Or.inr (k18 x2)⟩ (fun M' g => k_mark A2 (by omega) h7 100 300 0 a1 m1 M' (by decide) x1' g) (fun M' g => k_mark A2 (by omega) h7 100 300 0 a2 m2 M' (by decide) x2 g) (fun u z => z.elim (OcU.lt _ _ _) (OcU.lt _ _ _))
      obtain ⟨M4, hM4⟩ : ∃ q, q = mwA M3 128 k 0 := ⟨_, rfl⟩
      have k4 : KE D2 M2 M4 := by rw [hM4]; exact d2.wA rfl ⟨by decide, by decide⟩
      have v0 : mA M 128 k = 0 := gk1.trans z0
      have c128 : ∀ j, mA M2 128 j = mA M 128 j := fun j => (fr2.2.2.2 j).2.trans ((fr1.2.2.2 j).2.trans (frA.2.2.2 j).2)
      have h4 : ∀ j, mA M4 128 j = mA M2 128 j := fun j => by
        rw [hM4, mA_mwA]
        by_cases y : j = k
        · rw [ifT ⟨rfl, y⟩, c128, y, v0]
        · rw [ifF (fun q => y q.2), d3.2.2.2.1, ifF y]
      obtain ⟨eD, fr4⟩ := eC.kf k4 rfl rfl rfl h4 rfl
      have fq4 := fq2.fr fr4 eC.2.2.1.1
      have BD : ArS 135 136 30000 D2 M4 0 := BC.kf k4 rfl rfl rfl
      have nd2 : ∀ j, j < K2 → 167 ≤ (pl D2 134).getD j 0 := fun j hj => (A2.1.2.1 134 (by decide) j (by have := A2.2.2.2.1.2.1; omega)).2.1.1
      have sn4 : SnK D2 M2 D2 M4 134 K2 := fun j hj => ⟨rfl, fun f => by rw [hM4]; exact d4 f _ (by have := nd2 j hj; omega), fun f => k4.r rfl _⟩
      have sn0 : SnK D M D2 M4 134 K := ((snA.tr (S1.sn hx eA.1) (Nat.le_refl _)).tr (S2.sn hx A1) S1.1).tr sn4 (Nat.le_trans S1.1 S2.1)
      -- the twin
      have tw1 : ∀ s1, Ft [201, 202, 203] s0 s1 → TwT s1 N 100 0 m1 ∧ TwT s1 N 100 0 m2 := fun s1 g => ⟨TwT.mv (NdX.ft g rfl) (Nat.le_refl _) _ _ _ _ (Nat.le_refl _) w1, TwT.mv (NdX.ft g rfl) (Nat.le_refl _) _ _ _ _ (Nat.le_refl _) w2⟩
      obtain ⟨s1, l1, l2⟩ := t_learn h7 (e := k) (by omega) ((f 141 rfl).2.2.1 k |>.trans p1) ((f 142 rfl).2.2.1 k |>.trans q1) (tw1 s f).1 (tw1 s f).2 ⟨by decide, by decide⟩
      have f1 : Ft [201, 202, 203] s0 s1 := f.tr (l2.1.mono (by decide))
      have pp1 : F_printedSize (nI m1) s1 = some (n64 (PS s0 100 m1), s1) := by
        rw [← (TwT.ps (NdX.ft f1 rfl) h7 100 100 0 m1 (Nat.le_refl _) w1).1]
        exact t_ps h7 100 800 0 m1 (by decide) (tw1 s1 f1).1
      have pp2 : F_printedSize (nI m2) s1 = some (n64 (PS s0 100 m2), s1) := by
        rw [← (TwT.ps (NdX.ft f1 rfl) h7 100 100 0 m2 (Nat.le_refl _) w2).1]
        exact t_ps h7 100 800 0 m2 (by decide) (tw1 s1 f1).2
      obtain ⟨s2, hs2⟩ : ∃ q, q = tsL s1 203 (tL s1 203 + (n64 (PS s0 100 m1) + n64 (PS s0 100 m2))) := ⟨_, rfl⟩
      have f2 : Ft [201, 202, 203] s0 s2 := by rw [hs2]; exact f1.p_tsL rfl
      have ta2 : ∀ j, tA s2 202 j = tA s1 202 j := fun j => by rw [hs2]; rfl
      have tl2 : tL s2 203 = n64 K2 := by
        have : tL s2 203 = tL s1 203 + (n64 (PS s0 100 m1) + n64 (PS s0 100 m2)) := by rw [hs2]; rfl
        rw [this, (l2.1 203 rfl).2.1, t203, n64_add, n64_add]; congr 1; omega
      have up : ∀ {m}, TwT s0 N 100 0 m → ∀ u, OcU s0 200 m u ↔ OcU s0 100 m u := fun t u => ⟨OcU.dn h7 _ _ _ _ _ t, OcU.dn h7 _ _ _ _ _ (TwT.mv NdX.rf (Nat.le_refl _) _ _ _ _ (by decide) t)⟩
      have ph : ∀ {m}, TwT s0 N 100 0 m → PH s0 100 m ≤ 101 → PH s0 200 m ≤ 200 := fun t q => by
        rw [(TwT.ps NdX.rf h7 100 200 0 _ (by decide) t).2]; omega
      have pq : ∀ {m}, TwT s0 N 100 0 m → PS s0 100 m ≤ K2 → PS s0 200 m ≤ K2 := fun t q => by
        rw [(TwT.ps NdX.rf h7 100 200 0 _ (by decide) t).1]; exact q
      have L' : LpE V E A Wn Kf N ze zf Db Mb s0 (k + 1) D2 M4 K2 s2 := by
        refine ⟨eD, BD, fq4, by rw [hM4]; exact d3.1, ⟨tl2, by omega⟩, fun e' he' => ?_, ?_, ⟨f2, fun e' u h1 h2 h3 => ?_⟩, ((svA.tr (SvR.sh S1 hx eA.1.2.2.1 (by have := A1.2.2.2.1.2.2; omega))).tr (SvR.sh S2 hx A1.2.2.1 (by have := A2.2.2.2.1.2.2; omega))).tr (SvR.kf k4 rfl rfl ⟨rfl, rfl⟩ rfl), fun j => by rw [h4, c128, h128], (((hdv.fr frA va.1).fr fr1 eA.2.2.2.1).fr fr2 eB.2.2.2.1).fr fr4 eC.2.2.2.1⟩
        · by_cases y : e' = k
          · subst y
            refine ⟨fun _ => ⟨m1, m2, ⟨p1, ?_, ph w1 ps1.2, pq w1 (by omega)⟩, ⟨q1, ?_, ph w2 ps2.2, pq w2 (by omega)⟩, fun u hu => ?_⟩, fun z => absurd z0 z, ?_, ?_, ?_⟩
            · rw [show mX M4 126 e' = a1 by rw [hM4]; exact (d3.2.1 e').trans (ifT rfl)]
              exact SxR.mv sn4 NdX.rf (Nat.le_refl _) (Nat.le_refl _) h7 _ _ _ _ _ (by decide) x1'
            · rw [show mX M4 127 e' = a2 by rw [hM4]; exact (d3.2.2.1 e').trans (ifT rfl)]
              exact SxR.mv sn4 NdX.rf (Nat.le_refl _) (Nat.le_refl _) h7 _ _ _ _ _ (by decide) x2
            · rw [up w1, up w2, ta2, show mA M4 132 (180 * e' + u) = mA M3 132 (180 * e' + u) by rw [hM4, mA_mwA, ifF (by omega)]]
              obtain ⟨y1, y2⟩ := d3.2.2.2.2.2.2.2.1 u hu
              obtain ⟨y3, y4⟩ := l2.2.1 u (by omega)
              have iff : (OcU s 100 m1 u ∨ OcU s 100 m2 u) ↔ (OcU s0 100 m1 u ∨ OcU s0 100 m2 u) := by rw [OcU.fi f rfl, OcU.fi f rfl]
              exact ⟨fun z => ⟨y1 z, y3 (iff.mpr z)⟩, fun z => ⟨y2 z, y4 (fun q => z (iff.mp q))⟩⟩
            · rw [hM4, mA_mwA, ifF (by omega), d3.2.2.2.2.1, ifT rfl]
            · rw [hM4, mA_mwA, ifF (by omega), d3.2.2.2.2.2.1, ifT rfl]
            · rw [hM4, mA_mwA, ifF (by omega), d3.2.2.2.2.2.2.1, ifT rfl]
          · have lo : ∀ o, o < 133 → (∀ j, mX M2 o j = mX M o j) ∧ ∀ j, mA M2 o j = mA M o j := fun o ho => by
              have u1 := S1.s1 hx eA.1.2.2.1 ho
              have u2 := S2.s1 hx A1.2.2.1 ho
              exact ⟨fun j => by rw [u2.x, u1.x, hMa]; rfl, fun j => by rw [u2.a, u1.a, hMa]; rfl⟩
            refine (eqs e' (by omega)).mv sn0 (Nat.le_trans S1.1 S2.1) h7 ?_ ?_ ?_ ?_ ?_ (fun u hu => ?_) (fun u hu => ?_)
            · rw [show mX M4 126 e' = mX M3 126 e' by rw [hM4]; rfl, d3.2.1, ifF y]; exact (lo 126 (by decide)).1 _
            · rw [show mX M4 127 e' = mX M3 127 e' by rw [hM4]; rfl, d3.2.2.1, ifF y]; exact (lo 127 (by decide)).1 _
            · rw [hM4, mA_mwA, ifF (by omega), d3.2.2.2.2.1, ifF y]; exact (lo 129 (by decide)).2 _
            · rw [hM4, mA_mwA, ifF (by omega), d3.2.2.2.2.2.1, ifF y]; exact (lo 130 (by decide)).2 _
            · rw [hM4, mA_mwA, ifF (by omega), d3.2.2.2.2.2.2.1, ifF y]; exact (lo 131 (by decide)).2 _
            · rw [hM4, mA_mwA, ifF (by omega), d3.2.2.2.2.2.2.2.2 _ (by omega)]; exact (lo 132 (by decide)).2 _
            · rw [ta2]; exact l2.2.2 _ (by omega)
        · have U1 : UnS s0 (OcT s0 N 100 m1) := p3.un hKf.2.1
          have U2 : UnS s0 (OcT s0 N 100 m2) := q3.un hKf.2.1
          have g1 := (rl.mv snA (Nat.le_refl _) h7 (fun j => by rw [hMa]; rfl)).seq rl1 (S1.sn hx eA.1) S1.1 h7 U U1
          have g2 := g1.seq rl2 (S2.sn hx A1) S2.1 h7 (fun m r p => p.elim (fun p => U m r p) (fun p => U1 m r p)) U2
          refine (g2.mv sn4 (Nat.le_refl _) h7 (fun j => k4.gx rfl j)).im (fun m => ⟨fun ⟨e', n, h1, h2, h3, h4⟩ => ?_, fun z => ?_⟩)
          · by_cases y : e' = k
            · subst y
              rcases h3 with h3 | h3
              · exact Or.inl (Or.inr (by rw [show m1 = n from nIq (p1.symm.trans h3) (by omega) h4.lt.2]; exact h4))
              · exact Or.inr (by rw [show m2 = n from nIq (q1.symm.trans h3) (by omega) h4.lt.2]; exact h4)
            · exact Or.inl (Or.inl ⟨e', n, by omega, h2, h3, h4⟩)
          · rcases z with (⟨e', n, h1, h2⟩ | z) | z
            · exact ⟨e', n, by omega, h2⟩
            · exact ⟨k, m1, by omega, z0, Or.inl p1, z⟩
            · exact ⟨k, m2, by omega, z0, Or.inr q1, z⟩
        · rw [ta2, l2.2.2 _ (by omega)]; exact fz e' u (by omega) h2 h3
      obtain ⟨D', M', K', s', y1, y2, y3⟩ := ih (k + 1) kf tf D2 M4 K2 s2 (by omega) (by omega) (by omega) L'
      refine ⟨D', M', K', s', ?_, ?_, y3⟩
      · have e0 : nZ 0 = 0 := by decide
        unfold KL_X0_makeEquations_29
        rw [m35, ifF le, ifT iK, nm_eq, xk, v0, ← hMa, nm_eq, ifT rfl, (g111 eA.1 (by omega)).1, ob_some, ifT (Or.inr (g111 eA.1 (by omega)).2), ifT (g111 eA.1 (by omega)).2, show K_X0_solvedEx (mR Ma 3600 ((pl D 111).getD k 0)) Ma = some (.inl a1, M1) from c1, obS_inl]
        have l1' : k < (pl D1 111).length := by rw [fr1.1 111 (by decide)]; omega
        unfold KJ_X0_makeEquations_78_29
        rw [ifT rfl, (g111 A1 l1').1, ob_some, ifT (Or.inr (g111 A1 l1').2), ifT (g111 A1 l1').2, show K_X0_solvedEx (mR M1 3601 ((pl D1 111).getD k 0)) M1 = some (.inl a2, M2) from c2, obS_inl, d1, obS_inl, ifT iK, xk, e0, ← hM4, nm_eq, nx, nm_eq]
        exact y1
      · unfold L_solve_146
        rw [f144, ifF le, t_isBad0 t0, ob_some, ifT rfl, ifT i400, xk, f180, ifT z0, l1, ob_some, ifT i400, (f1 141 rfl).2.2.1, p1, pp1, ob_some, ifT i400, (f1 142 rfl).2.2.1, q1, pp2, ob_some, ← hs2, nm_eq, nx, nm_eq]
        exact y2
    · -- one that went
      have zn : ¬ tA s0 180 k = 0 := by rw [z1]; decide
      obtain ⟨M3, d1, d2, d3, d4⟩ := k_newEq (D := D) (P := fun _ => False) (Q := fun _ => False) (x1 := 0) (x2 := 0) (x3 := -1) (x4 := nI k) ⟨m65a, by omega⟩ ⟨Or.inl rfl, Or.inl rfl⟩ (fun M' g => ⟨M', k_mark0 299 _ M', KF.rf, SetA.no (fun j ⟨u, z, _⟩ => z)⟩) (fun M' g => ⟨M', k_mark0 299 _ M', KF.rf, SetA.no (fun j ⟨u, z, _⟩ => z)⟩) (fun u z => z.elim (fun z => z.elim) (fun z => z.elim))
      obtain ⟨M4, hM4⟩ : ∃ q, q = mwA M3 128 k 1 := ⟨_, rfl⟩
      have k4 : KE D Ma M4 := by rw [hM4]; exact d2.wA rfl ⟨by decide, by decide⟩
      have v1 : mA M 128 k = 1 := gk1.trans z1
      have h4 : ∀ j, mA M4 128 j = mA Ma 128 j := fun j => by
        rw [hM4, mA_mwA]
        by_cases y : j = k
        · rw [ifT ⟨rfl, y⟩, (frA.2.2.2 j).2, y, v1]
        · rw [ifF (fun q => y q.2), d3.2.2.2.1, ifF y]
      obtain ⟨eD, fr4⟩ := eA.kf k4 rfl rfl rfl h4 rfl
      have fq4 := fqA.fr fr4 hKf.1
      have BD : ArS 135 136 30000 D M4 0 := BA.kf k4 rfl rfl rfl
      have sn4 : SnK D Ma D M4 134 K := fun j hj => ⟨rfl, fun f => by rw [hM4]; exact d4 f _ (by have := nd167 j hj; omega), fun f => k4.r rfl _⟩
      have sn0 : SnK D M D M4 134 K := snA.tr sn4 (Nat.le_refl _)
      have sz1 : sumZ ze (k + 1) = sumZ ze k + ze k := rfl
      have sf1 : sumZ zf (k + 1) = sumZ zf k + zf k := rfl
      have L' : LpE V E A Wn Kf N ze zf Db Mb s0 (k + 1) D M4 K s := by
        refine ⟨eD, BD, fq4, by rw [hM4]; exact d3.1, ⟨t203, by omega⟩, fun e' he' => ?_, ?_, ⟨f, fun e' u h1 h2 h3 => fz e' u (by omega) h2 h3⟩, svA.tr (SvR.kf k4 rfl rfl ⟨rfl, rfl⟩ rfl), fun j => by rw [h4, (frA.2.2.2 j).2, h128], (hdv.fr frA va.1).fr fr4 eA.2.2.2.1⟩
        · by_cases y : e' = k
          · subst y
            refine ⟨fun z => absurd z zn, fun _ => ⟨?_, ?_, fun u hu => ⟨?_, fz e' u (Nat.le_refl _) (by omega) hu⟩⟩, ?_, ?_, ?_⟩
            · rw [hM4]; exact (d3.2.1 e').trans (ifT rfl)
            · rw [hM4]; exact (d3.2.2.1 e').trans (ifT rfl)
            · rw [hM4, mA_mwA, ifF (by omega)]; exact (d3.2.2.2.2.2.2.2.1 u hu).2 (fun z => z.elim id id)
            · rw [hM4, mA_mwA, ifF (by omega), d3.2.2.2.2.1, ifT rfl]
            · rw [hM4, mA_mwA, ifF (by omega), d3.2.2.2.2.2.1, ifT rfl]
            · rw [hM4, mA_mwA, ifF (by omega), d3.2.2.2.2.2.2.1, ifT rfl]
          · refine (eqs e' (by omega)).mv sn0 (Nat.le_refl _) h7 ?_ ?_ ?_ ?_ ?_ (fun u hu => ?_) (fun u hu => rfl)
            · rw [show mX M4 126 e' = mX M3 126 e' by rw [hM4]; rfl, d3.2.1, ifF y, hMa]; rfl
            · rw [show mX M4 127 e' = mX M3 127 e' by rw [hM4]; rfl, d3.2.2.1, ifF y, hMa]; rfl
            · rw [hM4, mA_mwA, ifF (by omega), d3.2.2.2.2.1, ifF y, hMa]; rfl
            · rw [hM4, mA_mwA, ifF (by omega), d3.2.2.2.2.2.1, ifF y, hMa]; rfl
            · rw [hM4, mA_mwA, ifF (by omega), d3.2.2.2.2.2.2.1, ifF y, hMa]; rfl
            · rw [hM4, mA_mwA, ifF (by omega), d3.2.2.2.2.2.2.2.2 _ (by omega), hMa]; rfl
        · refine (rl.mv sn0 (Nat.le_refl _) h7 (fun j => by rw [k4.gx rfl, hMa]; rfl)).im (fun m => ⟨fun ⟨e', n, h1, h2, h3⟩ => ?_, fun ⟨e', n, h1, h2⟩ => ⟨e', n, by omega, h2⟩⟩)
          by_cases y : e' = k
          · subst y; exact absurd h2 zn
          · exact ⟨e', n, by omega, h2, h3⟩
      obtain ⟨D', M', K', s', y1, y2, y3⟩ := ih (k + 1) kf tf D M4 K s (by omega) (by omega) (by omega) L'
      refine ⟨D', M', K', s', ?_, ?_, y3⟩
      · have e1 : nZ 1 = 1 := by decide
        unfold KL_X0_makeEquations_29
        rw [m35, ifF le, ifT iK, nm_eq, xk, v1, ← hMa, nm_eq, ifF (by decide)]
        unfold KJ_X0_makeEquations_78_29
        rw [ifF (by decide), d1, obS_inl, ifT iK, xk, e1, ← hM4, nm_eq, nx, nm_eq]
        exact y1
      · unfold L_solve_146
        rw [f144, ifF le, t_isBad0 t0, ob_some, ifT rfl, ifT i400, xk, f180, ifF zn, nx, nm_eq]
        exact y2
end EQS2
