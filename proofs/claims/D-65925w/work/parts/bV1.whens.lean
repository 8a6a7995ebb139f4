/-! Layer B: conditions of whens are solved -/
set_option maxRecDepth 100000
def WhPs (s0 : TS) (N k m : Nat) : Prop := ∃ e n, e < k ∧ tA s0 145 e = nI n ∧ OcT s0 N 100 n m
def AcPs (s0 : TS) (N k m : Nat) : Prop := ∃ e n, e < k ∧ tA s0 151 e = nI n ∧ OcT s0 N 100 n m
/-- what stays while whens and actions are solved -/
def OtR (Db : FQ) (Mb : CM) (K : Nat) (D : FQ) (M : CM) : Prop := ArS 133 134 40000 D M K ∧ SnK Db Mb D M 134 K ∧ SvR [136, 605, 4004] [] Db Mb D M ∧ ∀ o j, o < 133 → mX M o j = mX Mb o j
def WhT (V N : Nat) (D : FQ) (M : CM) (s0 : TS) (K2 e : Nat) : Prop := ∃ n, tA s0 145 e = nI n ∧ SxR D M s0 136 V K2 N 100 1 (mR M 3801 ((pl D 113).getD e 0)) n
def LpW (V E A Wn Kf N : Nat) (zw : Nat → Nat) (Db : FQ) (Mb : CM) (K : Nat) (s0 : TS) (k : Nat) (D : FQ) (M : CM) (K2 : Nat) : Prop :=
  EnS 135 136 30000 Kf V s0 D M K2 ∧ FlQ V E A Wn Kf N D M s0 ∧ HdV D M V ∧ K2 ≤ 2 * sumZ zw k ∧ (∀ e, e < k → WhT V N D M s0 K2 e) ∧ RlS D Mb M s0 136 V K2 N (WhPs s0 N k) ∧ OtR Db Mb K D M
section WHENS
variable {I A0 : List Nat} {s s' s0 : TS} {D D1 D2 Db D' : FQ} {M M' M1 M2 Mb : CM} {V K K1 K2 K' Kf N E A Wn n e i k l g o x0 X H : Nat} {zw za : Nat → Nat} {x : Int32}
theorem TZ.rw2 (W : PoW D M) (hl : l = 112 ∨ l = 113) (hk : k < (pl D l).length) : TZ (tgof D ((pl D l).getD k 0)) := by
  rcases hl with rfl | rfl
  · rw [W.tv (by decide) hk]
    have := (W.1 112 (by decide)).2.2
    have : flX 112 = 200 := rfl
    unfold TZ tg; omega
  · rw [W.tv (by decide) hk]
    have := (W.1 113 (by decide)).2.2
    have : flX 113 = 12 := rfl
    unfold TZ tg; omega
/-- a step of the other set -/
theorem OtR.sh (h : OtR Db Mb K D M) (S : StH 135 136 D M K2 D1 M1 K1) (A : ArS 135 136 30000 D M K2) (A1 : ArS 135 136 30000 D1 M1 K1) : OtR Db Mb K D1 M1 := by
  obtain ⟨a, b, c, d⟩ := h
  obtain ⟨a', b'⟩ := a.ot NdS2.one S NdS2.two A A1 (by decide)
  exact ⟨a', b.tr b' (Nat.le_refl _), c.tr (SvR.sh S NdS2.two A.2.2.1 (by have := A1.2.2.2.1.2.2; omega)), fun o j ho => by rw [(S.s1 NdS2.two A.2.2.1 ho).x]; exact d o j ho⟩
/-- a link of a when or an action is written -/
theorem OtR.wr {r : Nat} (h : OtR Db Mb K D M) (hg : g = 3801 ∨ g = 4003) (hl : l = 112 ∨ l = 113) (hk : k < (pl D l).length) : OtR Db Mb K D (msR M g ((pl D l).getD k 0) r) := by
  obtain ⟨a, b, c, d⟩ := h
  have kf : KF D [] [g] [] [] M (msR M g ((pl D l).getD k 0) r) := KF.rf.wR (by simp) (TZ.rw2 a.1 hl hk)
  have n69 : g ≠ 69 := by omega
  refine ⟨a.kf kf rfl (by rcases hg with rfl | rfl <;> rfl) rfl, b.tr (fun j hj => ⟨rfl, fun f => rfl, fun f => ?_⟩) (Nat.le_refl _), c.tr ?_, fun o j ho => d o j ho⟩
  · obtain ⟨q1, -, -⟩ := a.1.2.1 134 (by decide) j (by have := a.2.2.2.1.2.1; omega)
    have q2 : mk M ((pl D l).getD k 0) = flK l := (a.1.2.1 l (by rcases hl with rfl | rfl <;> decide) k hk).1
    rw [mR_msR, ifF (fun z => by
      rw [z.2, q2] at q1
      rcases hl with rfl | rfl <;> exact absurd q1 (by decide))]
  · have rm := rm_same (D := D) (M := M) (M' := msR M g ((pl D l).getD k 0) r) ⟨rfl, rfl⟩ (fun o => ⟨by rw [mR_msR, ifF (by omega)], by rw [mR_msR, ifF (by omega)], rfl⟩)
    have o1 : (pl D l).getD k 0 ≠ 1 := by
      have := (a.1.2.1 l (by rcases hl with rfl | rfl <;> decide) k hk).2.1.1
      omega
    exact ⟨Dx.rf D M, kf.1, fun _ _ _ => rfl, ⟨Nat.le_of_eq rm.1, Nat.le_of_eq rm.2⟩, fun _ _ => rfl, fun f _ => by rw [mR_msR, ifF (fun z => o1 z.2.symm)], fun _ _ _ _ => rfl, OlV.kf kf rfl (by rcases hg with rfl | rfl <;> rfl), fun z => absurd z (by decide)⟩
/-- nodes of the set stay when such a link is written -/
theorem SnK.wr {r : Nat} (A : ArS x0 l X D M K2) (hx : NdS2 x0 l X H) {l' : Nat} (hl : l' = 112 ∨ l' = 113) (hk : k < (pl D l').length) : SnK D M D (msR M g ((pl D l').getD k 0) r) l K2 := fun j hj => ⟨rfl, fun _ => rfl, fun f => by
  have q1 := (A.k18 hx hj).1
  have q2 : mk M ((pl D l').getD k 0) = flK l' := (A.1.2.1 l' (by rcases hl with rfl | rfl <;> decide) k hk).1
  rw [mR_msR, ifF (fun z => by
    rw [z.2, q2] at q1
    rcases hl with rfl | rfl <;> exact absurd q1 (by decide))]⟩
theorem UnS.wh (fq : FlQ V E A Wn Kf N D M s0) (hK : Kf ≤ 12000) (h7 : N ≤ 70000) (hk : k ≤ Wn) : UnS s0 (WhPs s0 N k) := fun m r ⟨e, n, he, hn, o⟩ i hr q => by
  obtain ⟨-, -, -, ⟨-, -, a3⟩, -⟩ := fq
  obtain ⟨n1, p1, p2, p3⟩ := a3 e (by omega)
  have b1 := p2.nb
  have : n1 = n := nIq (p1.symm.trans hn) (by omega) o.lt.2
  subst this
  exact p3.un hK m r o i hr q
theorem UnS.ac (fq : FlQ V E A Wn Kf N D M s0) (hK : Kf ≤ 12000) (h7 : N ≤ 70000) (hk : k ≤ A) : UnS s0 (AcPs s0 N k) := fun m r ⟨e, n, he, hn, o⟩ i hr q => by
  obtain ⟨-, -, ⟨-, -, a3⟩, -⟩ := fq
  obtain ⟨-, -, n1, p1, p2, p3⟩ := a3 e (by omega)
  have b1 := p2.nb
  have : n1 = n := nIq (p1.symm.trans hn) (by omega) o.lt.2
  subst this
  exact p3.un hK m r o i hr q
theorem k_mkWh (hV : V ≤ 96) (h7 : N ≤ 70000) (hz : ∀ e, e < Wn → RtS s0 N 145 e (zw e)) (hs : sumZ zw Wn ≤ 12001) : ∀ (d k kf : Nat) (D : FQ) (M : CM) (K2 : Nat), k + d = Wn → d < kf → LpW V E A Wn Kf N zw Db Mb K s0 k D M K2 → ∃ D' M' K', KL_X0_makeEquations_136 kf (nI k) M = some (.inl (), M') ∧ LpW V E A Wn Kf N zw Db Mb K s0 Wn D' M' K' := by
  intro d
  induction d with
  | zero =>
    intro k kf D M K2 hk hkf L
    obtain ⟨kf, rfl⟩ : ∃ g, kf = g + 1 := ⟨kf - 1, by omega⟩
    obtain rfl : k = Wn := by omega
    obtain ⟨-, ⟨⟨-, -, m39⟩, -, -, ⟨W12, -⟩, -⟩, -⟩ := id L
    refine ⟨D, M, K2, ?_, L⟩
    unfold KL_X0_makeEquations_136
    rw [m39, ifT ((bI_le (by omega) (by omega)).mpr (Nat.le_refl _))]
  | succ d ih =>
    intro k kf D M K2 hk hkf L
    obtain ⟨kf, rfl⟩ : ∃ g, kf = g + 1 := ⟨kf - 1, by omega⟩
    obtain ⟨e, fq, hd, kb, ws, rl, ot⟩ := id L
    obtain ⟨A0, r69, hKf, va⟩ := id e
    obtain ⟨⟨-, -, m39⟩, -, -, ⟨W12, W113, whn⟩, -⟩ := id fq
    have hx := NdS2.two
    have le : ¬ nI Wn ≤ nI k := fun z => by have := (bI_le (by omega) (by omega)).mp z; omega
    have nx : nI k + 1 = nI (k + 1) := nI_addL k 1
    have h113 : k < (pl D 113).length := by omega
    obtain ⟨g1, g2⟩ : K_J2_get 113 (nI k) M = some ((pl D 113).getD k 0, M) ∧ mk M ((pl D 113).getD k 0) = 20 := ⟨ls_get (A0.1.1 113 (by decide)).1 h113, (A0.1.2.1 113 (by decide) k h113).1⟩
    obtain ⟨n1, p1, p2, p3⟩ := whn k (by omega)
    obtain ⟨m1, r1, r2, r3⟩ := hz k (by omega)
    have b1 := p2.nb
    have : m1 = n1 := nIq (r1.symm.trans p1) r3 (by omega)
    subst this
    have ps1 := NdR.ps hV h7 100 1 _ m1 _ p2 r2
    have mz := sumZ_mono zw (Wn - (k + 1)) (k + 1)
    rw [show k + 1 + (Wn - (k + 1)) = Wn by omega] at mz
    have sz1 : sumZ zw (k + 1) = sumZ zw k + zw k := rfl
    rcases k_svT (E := False) hx hV h7 100 300 1 _ m1 D M K2 (by decide) (Nat.le_refl _) e p2 p3 (fun z => absurd z (by decide)) with ⟨a1, D1, M1, K1, c1, A1, S1, e1, x1, rl1⟩ | ⟨w, M', -, -, c3⟩
    rotate_left
    · exfalso
      rcases c3 with c3 | c3
      · omega
      · exact c3
    have fr1 := FrQ.sh S1 hx A0 A1
    have fq1 := fq.fr fr1 hKf.1
    obtain ⟨eB, -⟩ := e.mv (N := N) hx A1 S1
    have ot1 := ot.sh S1 A0 A1
    have p113 : pl D1 113 = pl D 113 := S1.2.2.1 113 (by decide)
    have so113 : ∀ j, j < (pl D 113).length → So M M1 ((pl D 113).getD j 0) := fun j hj => S1.sl hx A0.1 (by decide) (by decide) hj (by have := A1.2.2.2.1.2.2; omega)
    obtain ⟨M2, hM2⟩ : ∃ q, q = msR M1 3801 ((pl D1 113).getD k 0) a1 := ⟨_, rfl⟩
    have hk1 : k < (pl D1 113).length := by rw [p113]; exact h113
    have kf2 : KF D1 [] [3801] [] [] M1 M2 := by rw [hM2]; exact KF.rf.wR rfl (TZ.rw2 A1.1 (Or.inr rfl) hk1)
    obtain ⟨eC, fr2⟩ := eB.kf kf2 rfl rfl rfl (fun _ => kf2.ga rfl _) rfl
    have sn2 : SnK D1 M1 D1 M2 136 K1 := by rw [hM2]; exact SnK.wr A1 hx (Or.inr rfl) hk1
    have sn12 : SnK D M D1 M2 136 K2 := (S1.sn hx A0).tr sn2 S1.1
    have L' : LpW V E A Wn Kf N zw Db Mb K s0 (k + 1) D1 M2 K1 := by
      refine ⟨eC, fq1.fr fr2 eB.2.2.1.1, (hd.fr fr1 va.1).fr fr2 eB.2.2.2.1, by omega, fun e' he' => ?_, ?_, by rw [hM2]; exact ot1.wr (Or.inl rfl) (Or.inr rfl) hk1⟩
      · by_cases y : e' = k
        · subst y
          refine ⟨m1, p1, ?_⟩
          rw [show mR M2 3801 ((pl D1 113).getD e' 0) = a1 by rw [hM2, mR_msR, ifT ⟨rfl, rfl⟩]]
          exact SxR.mv sn2 NdX.rf (Nat.le_refl _) (Nat.le_refl _) h7 _ _ _ _ _ (Nat.le_refl _) x1
        · obtain ⟨n, w1, w2⟩ := ws e' (by omega)
          refine ⟨n, w1, ?_⟩
          have ne : (pl D1 113).getD e' 0 ≠ (pl D1 113).getD k 0 := fun z => y (A1.1.inj (l := 113) (l' := 113) (by decide) (by decide) (by omega) hk1 z).2
          rw [show mR M2 3801 ((pl D1 113).getD e' 0) = mR M 3801 ((pl D 113).getD e' 0) by rw [hM2, mR_msR, ifF (fun z => ne z.2), p113, (so113 e' (by omega)).r]]
          exact SxR.mv sn12 NdX.rf S1.1 (Nat.le_refl _) h7 _ _ _ _ _ (Nat.le_refl _) w2
      · have g := rl.seq rl1 (S1.sn hx A0) S1.1 h7 (UnS.wh fq hKf.2.1 h7 (by omega)) (p3.un hKf.2.1)
        refine (g.mv sn2 (Nat.le_refl _) h7 (fun j => kf2.gx rfl j)).im (fun m => ⟨fun ⟨e', n, q1, q2, q3⟩ => ?_, fun z => ?_⟩)
        · by_cases y : e' = k
          · subst y
            exact Or.inr (by rw [show m1 = n from nIq (p1.symm.trans q2) (by omega) q3.lt.2]; exact q3)
          · exact Or.inl ⟨e', n, by omega, q2, q3⟩
        · rcases z with ⟨e', n, q1, q2⟩ | z
          · exact ⟨e', n, by omega, q2⟩
          · exact ⟨k, m1, by omega, p1, z⟩
    obtain ⟨D', M', K', y1, y2⟩ := ih (k + 1) kf D1 M2 K1 (by omega) (by omega) L'
    refine ⟨D', M', K', ?_, y2⟩
    unfold KL_X0_makeEquations_136
    rw [m39, ifF le, g1, ob_some, ifT (Or.inr g2), g1, ob_some, ifT (Or.inr g2), ifT g2, show K_X0_solvedEx (mR M 3800 ((pl D 113).getD k 0)) M = some (.inl a1, M1) from c1, obS_inl, ifT ((so113 k h113).k.trans g2), ← p113, ← hM2, nm_eq, nx, nm_eq]
    exact y1
end WHENS
