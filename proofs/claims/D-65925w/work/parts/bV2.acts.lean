/-! Layer B: values of actions are solved; K_X0_makeEquations -/
set_option maxRecDepth 100000
def AcT (V N : Nat) (D : FQ) (M : CM) (s0 : TS) (K2 i : Nat) : Prop := ∃ n c, tA s0 151 i = nI n ∧ SxR D M s0 136 V K2 N 100 0 c n ∧
  ((mI M 4000 ((pl D 112).getD i 0) = 0 ∧ mI M 4004 ((pl D 112).getD i 0) = -1 ∧ mR M 4003 ((pl D 112).getD i 0) = c) ∨
   (mI M 4000 ((pl D 112).getD i 0) = 1 ∧ ∃ v w, (v < V ∧ mI M 4001 ((pl D 112).getD i 0) = nI v) ∧ (w < V ∧ mI M 3217 ((pl D 98).getD v 0) = nI w) ∧ mI M 4004 ((pl D 112).getD i 0) = mI M 3219 ((pl D 98).getD w 0) ∧
     ((0 ≤ mI M 3218 ((pl D 98).getD v 0) ∧ mR M 4003 ((pl D 112).getD i 0) = c) ∨ (¬ 0 ≤ mI M 3218 ((pl D 98).getD v 0) ∧ ∃ j, j < K2 ∧ mR M 4003 ((pl D 112).getD i 0) = (pl D 136).getD j 0 ∧ mI M 3400 ((pl D 136).getD j 0) = 7 ∧ mR M 3405 ((pl D 136).getD j 0) = c ∧ mR M 3406 ((pl D 136).getD j 0) = 0 ∧ mR M 3407 ((pl D 136).getD j 0) = 0))))
def LpA (V E A Wn Kf N : Nat) (zw za : Nat → Nat) (Db : FQ) (Mb : CM) (K : Nat) (s0 : TS) (k : Nat) (D : FQ) (M : CM) (K2 : Nat) : Prop :=
  EnS 135 136 30000 Kf V s0 D M K2 ∧ FlQ V E A Wn Kf N D M s0 ∧ HdV D M V ∧ K2 ≤ 2 * sumZ zw Wn + 2 * sumZ za k + k ∧ ((∀ e, e < Wn → WhT V N D M s0 K2 e) ∧ ∀ e, e < k → AcT V N D M s0 K2 e) ∧ RlS D Mb M s0 136 V K2 N (fun m => WhPs s0 N Wn m ∨ AcPs s0 N k m) ∧ OtR Db Mb K D M
section ACTS
variable {s s' s0 : TS} {D D1 D2 Db D' : FQ} {M M' M1 M2 Mb : CM} {V K K1 K2 K' Kf N E A Wn n e i k l g o x0 X H k' : Nat} {zw za : Nat → Nat} {x y : Int32}
theorem OtR.wi (h : OtR Db Mb K D M) (hk : k < (pl D 112).length) : OtR Db Mb K D (msI M 4004 ((pl D 112).getD k 0) y) := by
  obtain ⟨a, b, c, d⟩ := h
  have kf : KF D [4004] [] [] [] M (msI M 4004 ((pl D 112).getD k 0) y) := KF.rf.wI rfl (TZ.rw2 a.1 (Or.inl rfl) hk)
  have q2 := a.1.2.1 112 (by decide) k hk
  refine ⟨a.kf kf rfl rfl rfl, b.tr (fun j hj => ⟨rfl, fun f => ?_, fun f => rfl⟩) (Nat.le_refl _), c.tr ?_, fun o j ho => d o j ho⟩
  · obtain ⟨q1, -, -⟩ := a.1.2.1 134 (by decide) j (by have := a.2.2.2.1.2.1; omega)
    rw [mI_msI, ifF (fun z => by
      rw [z.2, q2.1] at q1
      exact absurd q1 (by decide))]
  · have rm := rm_same (D := D) (M := M) (M' := msI M 4004 ((pl D 112).getD k 0) y) ⟨rfl, rfl⟩ (fun o => ⟨rfl, rfl, rfl⟩)
    have o1 : (pl D 112).getD k 0 ≠ 1 := by have := q2.2.1.1; omega
    exact ⟨Dx.rf D M, kf.1, fun _ _ _ => rfl, ⟨Nat.le_of_eq rm.1, Nat.le_of_eq rm.2⟩, fun f _ => by rw [mI_msI, ifF (fun z => o1 z.2.symm)], fun _ _ => rfl, fun _ _ _ _ => rfl, OlV.kf kf rfl rfl, fun z => absurd z (by decide)⟩
theorem SnK.wi (A : ArS x0 l X D M K2) (hx : NdS2 x0 l X H) (hk : k < (pl D 112).length) : SnK D M D (msI M 4004 ((pl D 112).getD k 0) y) l K2 := fun j hj => ⟨rfl, fun f => by
  have q1 := (A.k18 hx hj).1
  have q2 : mk M ((pl D 112).getD k 0) = 21 := (A.1.2.1 112 (by decide) k hk).1
  rw [mI_msI, ifF (fun z => by
    rw [z.2, q2] at q1
    exact absurd q1 (by decide))], fun _ => rfl⟩
theorem WhT.mv (h : WhT V N D M s0 K2 e) (sn : SnK D M D' M' 136 K2) (hK : K2 ≤ K') (h7 : N ≤ 70000) (p : pl D' 113 = pl D 113) (r : mR M' 3801 ((pl D 113).getD e 0) = mR M 3801 ((pl D 113).getD e 0)) : WhT V N D' M' s0 K' e := by
  obtain ⟨n, a, b⟩ := h
  exact ⟨n, a, by rw [p, r]; exact SxR.mv sn NdX.rf hK (Nat.le_refl _) h7 _ _ _ _ _ (Nat.le_refl _) b⟩
theorem AcT.mv (h : AcT V N D M s0 K2 i) (sn : SnK D M D' M' 136 K2) (hK : K2 ≤ K') (h7 : N ≤ 70000) (fr : FrQ D M D' M') (hi : i < (pl D 112).length) (hV : V ≤ (pl D 98).length) (i4 : mI M' 4004 ((pl D 112).getD i 0) = mI M 4004 ((pl D 112).getD i 0)) (r3 : mR M' 4003 ((pl D 112).getD i 0) = mR M 4003 ((pl D 112).getD i 0)) : AcT V N D' M' s0 K' i := by
  obtain ⟨n, c, a, b, z⟩ := h
  have f12 := (fr.2.1 112 (by decide) i hi).1
  have f98 : ∀ v, v < V → ∀ f, f ∈ fqI → mI M' f ((pl D 98).getD v 0) = mI M f ((pl D 98).getD v 0) := fun v hv => (fr.2.1 98 (by decide) v (by omega)).1
  refine ⟨n, c, a, SxR.mv sn NdX.rf hK (Nat.le_refl _) h7 _ _ _ _ _ (Nat.le_refl _) b, ?_⟩
  rw [fr.1 112 (by decide), fr.1 98 (by decide), f12 4000 (by decide), f12 4001 (by decide), i4, r3]
  refine z.imp id (fun ⟨z1, v, w, v1, w1, z2, z3⟩ => ⟨z1, v, w, v1, ⟨w1.1, by rw [f98 v v1.1 3217 (by decide)]; exact w1.2⟩, by rw [f98 w w1.1 3219 (by decide)]; exact z2, ?_⟩)
  rw [f98 v v1.1 3218 (by decide)]
  refine z3.imp id (fun ⟨y1, j, j1, j2, j3, j4, j5, j6⟩ => ?_)
  obtain ⟨e1, e2, e3⟩ := sn j j1
  refine ⟨y1, j, by omega, by rw [e1]; exact j2, ?_⟩
  rw [e1, e2, e3, e3, e3]
  exact ⟨j3, j4, j5, j6⟩
theorem k_mkAc (hV : V ≤ 96) (h7 : N ≤ 70000) (hz : ∀ e, e < A → RtS s0 N 151 e (za e)) (hs : sumZ zw Wn + sumZ za A ≤ 12001) : ∀ (d k kf : Nat) (D : FQ) (M : CM) (K2 : Nat), k + d = A → d < kf → LpA V E A Wn Kf N zw za Db Mb K s0 k D M K2 → ∃ D' M' K', KL_X0_makeEquations_184 kf (nI k) M = some (.inl (), M') ∧ LpA V E A Wn Kf N zw za Db Mb K s0 A D' M' K' := by
  intro d
  induction d with
  | zero =>
    intro k kf D M K2 hk hkf L
    obtain ⟨kf, rfl⟩ : ∃ g, kf = g + 1 := ⟨kf - 1, by omega⟩
    obtain rfl : k = A := by omega
    obtain ⟨-, ⟨⟨-, m37, -⟩, -, ⟨A2, -⟩, -⟩, -⟩ := id L
    refine ⟨D, M, K2, ?_, L⟩
    unfold KL_X0_makeEquations_184
    rw [m37, ifT ((bI_le (by omega) (by omega)).mpr (Nat.le_refl _))]
  | succ d ih =>
    intro k kf D M K2 hk hkf L
    obtain ⟨kf, rfl⟩ : ∃ g, kf = g + 1 := ⟨kf - 1, by omega⟩
    obtain ⟨e, fq, hd, kb, ⟨ws, as⟩, rl, ot⟩ := id L
    obtain ⟨A0, r69, hKf, va⟩ := id e
    obtain ⟨⟨-, m37, -⟩, -, ⟨A200, A112, acn⟩, ⟨W12, W113, -⟩, -⟩ := id fq
    have hx := NdS2.two
    have le : ¬ nI A ≤ nI k := fun z => by have := (bI_le (by omega) (by omega)).mp z; omega
    have nx : nI k + 1 = nI (k + 1) := nI_addL k 1
    have h112 : k < (pl D 112).length := by omega
    obtain ⟨g1, g2⟩ : K_J2_get 112 (nI k) M = some ((pl D 112).getD k 0, M) ∧ mk M ((pl D 112).getD k 0) = 21 := ⟨ls_get (A0.1.1 112 (by decide)).1 h112, (A0.1.2.1 112 (by decide) k h112).1⟩
    obtain ⟨⟨v, v1, v2, v3⟩, kd, n1, p1, p2, p3⟩ := acn k (by omega)
    obtain ⟨m1, r1, r2, r3⟩ := hz k (by omega)
    have b1 := p2.nb
    have : m1 = n1 := nIq (r1.symm.trans p1) r3 (by omega)
    subst this
    have ps1 := NdR.ps hV h7 100 0 _ m1 _ p2 r2
    have mz := sumZ_mono za (A - (k + 1)) (k + 1)
    rw [show k + 1 + (A - (k + 1)) = A by omega] at mz
    have sz1 : sumZ za (k + 1) = sumZ za k + za k := rfl
    rcases k_svT (E := False) hx hV h7 100 300 0 _ m1 D M K2 (by decide) (Nat.le_refl _) e p2 p3 (fun z => absurd z (by decide)) with ⟨a1, D1, M1, K1, c1, A1, S1, e1, x1, rl1⟩ | ⟨w, M', -, -, c3⟩
    rotate_left
    · exfalso
      rcases c3 with c3 | c3
      · omega
      · exact c3
    have fr1 := FrQ.sh S1 hx A0 A1
    have fq1 := fq.fr fr1 hKf.1
    obtain ⟨eB, -⟩ := e.mv (N := N) hx A1 S1
    have ot1 := ot.sh S1 A0 A1
    have hd1 := hd.fr fr1 va.1
    have p112 : pl D1 112 = pl D 112 := S1.2.2.1 112 (by decide)
    have p113 : pl D1 113 = pl D 113 := S1.2.2.1 113 (by decide)
    have so : ∀ l, l = 112 ∨ l = 113 → ∀ j, j < (pl D l).length → So M M1 ((pl D l).getD j 0) := fun l hl j hj => S1.sl hx A0.1 (by rcases hl with rfl | rfl <;> decide) (by rcases hl with rfl | rfl <;> decide) hj (by have := A1.2.2.2.1.2.2; omega)
    have hk1 : k < (pl D1 112).length := by rw [p112]; exact h112
    have l98 : V ≤ (pl D1 98).length := eB.2.2.2.1
    have k21 : mk M1 ((pl D1 112).getD k 0) = 21 := (A1.1.2.1 112 (by decide) k hk1).1
    have ws1 : ∀ e, e < Wn → WhT V N D1 M1 s0 K1 e := fun e' he' => (ws e' he').mv (S1.sn hx A0) S1.1 h7 p113 ((so 113 (Or.inr rfl) e' (by omega)).r _)
    have as1 : ∀ e, e < k → AcT V N D1 M1 s0 K1 e := fun e' he' => (as e' he').mv (S1.sn hx A0) S1.1 h7 fr1 (by omega) va.1 ((so 112 (Or.inl rfl) e' (by omega)).i _) ((so 112 (Or.inl rfl) e' (by omega)).r _)
    have rlB : RlS D1 Mb M1 s0 136 V K1 N (fun m => WhPs s0 N Wn m ∨ AcPs s0 N (k + 1) m) := by
      have U : UnS s0 (fun m => WhPs s0 N Wn m ∨ AcPs s0 N k m) := fun m r p => p.elim (fun p => UnS.wh fq hKf.2.1 h7 (Nat.le_refl _) m r p) (fun p => UnS.ac fq hKf.2.1 h7 (by omega) m r p)
      refine (rl.seq rl1 (S1.sn hx A0) S1.1 h7 U (p3.un hKf.2.1)).im (fun m => ⟨fun z => ?_, fun z => ?_⟩)
      · rcases z with z | ⟨e', n, q1, q2, q3⟩
        · exact Or.inl (Or.inl z)
        · by_cases y : e' = k
          · subst y
            exact Or.inr (by rw [show m1 = n from nIq (p1.symm.trans q2) (by omega) q3.lt.2]; exact q3)
          · exact Or.inl (Or.inr ⟨e', n, by omega, q2, q3⟩)
      · rcases z with (z | ⟨e', n, q1, q2⟩) | z
        · exact Or.inl z
        · exact Or.inr ⟨e', n, by omega, q2⟩
        · exact Or.inr ⟨k, m1, by omega, p1, z⟩
    have ne : ∀ {D2 : FQ} {M2 : CM} {K2 e}, ArS 135 136 30000 D2 M2 K2 → k < (pl D2 112).length → e < k → (pl D2 112).getD e 0 ≠ (pl D2 112).getD k 0 := fun A h h2 z => by
      have := (A.1.inj (l := 112) (l' := 112) (by decide) (by decide) (by omega) h z).2
      omega
    have n23 : ∀ {D2 : FQ} {M2 : CM} {K2 e}, ArS 135 136 30000 D2 M2 K2 → k < (pl D2 112).length → e < (pl D2 113).length → (pl D2 113).getD e 0 ≠ (pl D2 112).getD k 0 := fun A h h2 z => absurd (A.1.inj (l := 113) (l' := 112) (by decide) (by decide) h2 h z).1 (by decide)
    -- writing the two links of action k
    have wr3 : ∀ {D2 M2 K2} (r : Nat), EnS 135 136 30000 Kf V s0 D2 M2 K2 → FlQ V E A Wn Kf N D2 M2 s0 → HdV D2 M2 V → (∀ e, e < Wn → WhT V N D2 M2 s0 K2 e) → (∀ e, e < k → AcT V N D2 M2 s0 K2 e) → RlS D2 Mb M2 s0 136 V K2 N (fun m => WhPs s0 N Wn m ∨ AcPs s0 N (k + 1) m) → OtR Db Mb K D2 M2 → EnS 135 136 30000 Kf V s0 D2 (msR M2 4003 ((pl D2 112).getD k 0) r) K2 ∧ FlQ V E A Wn Kf N D2 (msR M2 4003 ((pl D2 112).getD k 0) r) s0 ∧ HdV D2 (msR M2 4003 ((pl D2 112).getD k 0) r) V ∧ (∀ e, e < Wn → WhT V N D2 (msR M2 4003 ((pl D2 112).getD k 0) r) s0 K2 e) ∧ (∀ e, e < k → AcT V N D2 (msR M2 4003 ((pl D2 112).getD k 0) r) s0 K2 e) ∧ RlS D2 Mb (msR M2 4003 ((pl D2 112).getD k 0) r) s0 136 V K2 N (fun m => WhPs s0 N Wn m ∨ AcPs s0 N (k + 1) m) ∧ OtR Db Mb K D2 (msR M2 4003 ((pl D2 112).getD k 0) r) ∧ SnK D2 M2 D2 (msR M2 4003 ((pl D2 112).getD k 0) r) 136 K2 ∧ FrQ D2 M2 D2 (msR M2 4003 ((pl D2 112).getD k 0) r) := fun {D2 M2 K2} r e2 fq2 hd2 ws2 as2 rl2 ot2 => by
      have hk2 : k < (pl D2 112).length := by have := fq2.2.2.1.2.1; omega
      have kf2 : KF D2 [] [4003] [] [] M2 (msR M2 4003 ((pl D2 112).getD k 0) r) := KF.rf.wR rfl (TZ.rw2 e2.1.1 (Or.inl rfl) hk2)
      obtain ⟨eC, fr2⟩ := e2.kf kf2 rfl rfl rfl (fun _ => rfl) rfl
      have sn : SnK D2 M2 D2 (msR M2 4003 ((pl D2 112).getD k 0) r) 136 K2 := SnK.wr e2.1 hx (Or.inl rfl) hk2
      exact ⟨eC, fq2.fr fr2 e2.2.2.1.1, hd2.fr fr2 e2.2.2.2.1, fun e' he' => (ws2 e' he').mv sn (Nat.le_refl _) h7 rfl (by rw [mR_msR, ifF (fun z => absurd z.1 (by decide))]), fun e' he' => (as2 e' he').mv sn (Nat.le_refl _) h7 fr2 (by omega) e2.2.2.2.1 rfl (by rw [mR_msR, ifF (fun z => ne e2.1 hk2 he' z.2)]), rl2.mv sn (Nat.le_refl _) h7 (fun _ => rfl), ot2.wr (Or.inr rfl) (Or.inl rfl) hk2, sn, fr2⟩
    have wr4 : ∀ {D2 M2 K2} (r : Int32), EnS 135 136 30000 Kf V s0 D2 M2 K2 → FlQ V E A Wn Kf N D2 M2 s0 → HdV D2 M2 V → (∀ e, e < Wn → WhT V N D2 M2 s0 K2 e) → (∀ e, e < k → AcT V N D2 M2 s0 K2 e) → RlS D2 Mb M2 s0 136 V K2 N (fun m => WhPs s0 N Wn m ∨ AcPs s0 N (k + 1) m) → OtR Db Mb K D2 M2 → EnS 135 136 30000 Kf V s0 D2 (msI M2 4004 ((pl D2 112).getD k 0) r) K2 ∧ FlQ V E A Wn Kf N D2 (msI M2 4004 ((pl D2 112).getD k 0) r) s0 ∧ HdV D2 (msI M2 4004 ((pl D2 112).getD k 0) r) V ∧ (∀ e, e < Wn → WhT V N D2 (msI M2 4004 ((pl D2 112).getD k 0) r) s0 K2 e) ∧ (∀ e, e < k → AcT V N D2 (msI M2 4004 ((pl D2 112).getD k 0) r) s0 K2 e) ∧ RlS D2 Mb (msI M2 4004 ((pl D2 112).getD k 0) r) s0 136 V K2 N (fun m => WhPs s0 N Wn m ∨ AcPs s0 N (k + 1) m) ∧ OtR Db Mb K D2 (msI M2 4004 ((pl D2 112).getD k 0) r) ∧ SnK D2 M2 D2 (msI M2 4004 ((pl D2 112).getD k 0) r) 136 K2 ∧ FrQ D2 M2 D2 (msI M2 4004 ((pl D2 112).getD k 0) r) := fun {D2 M2 K2} r e2 fq2 hd2 ws2 as2 rl2 ot2 => by
      have hk2 : k < (pl D2 112).length := by have := fq2.2.2.1.2.1; omega
      have kf2 : KF D2 [4004] [] [] [] M2 (msI M2 4004 ((pl D2 112).getD k 0) r) := KF.rf.wI rfl (TZ.rw2 e2.1.1 (Or.inl rfl) hk2)
      obtain ⟨eC, fr2⟩ := e2.kf kf2 rfl rfl rfl (fun _ => rfl) rfl
      have sn : SnK D2 M2 D2 (msI M2 4004 ((pl D2 112).getD k 0) r) 136 K2 := SnK.wi e2.1 hx hk2
      exact ⟨eC, fq2.fr fr2 e2.2.2.1.1, hd2.fr fr2 e2.2.2.2.1, fun e' he' => (ws2 e' he').mv sn (Nat.le_refl _) h7 rfl rfl, fun e' he' => (as2 e' he').mv sn (Nat.le_refl _) h7 fr2 (by omega) e2.2.2.2.1 (by rw [mI_msI, ifF (fun z => ne e2.1 hk2 he' z.2)]) rfl, rl2.mv sn (Nat.le_refl _) h7 (fun _ => rfl), ot2.wi hk2, sn, fr2⟩
    obtain ⟨eC, fqC, hdC, wsC, asC, rlC, otC, snC, frC⟩ := wr3 a1 eB fq1 hd1 ws1 as1 rlB ot1
    obtain ⟨M2, hM2⟩ : ∃ q, q = msR M1 4003 ((pl D1 112).getD k 0) a1 := ⟨_, rfl⟩
    rw [← hM2] at eC fqC hdC wsC asC rlC otC snC frC
    have x2 : SxR D1 M2 s0 136 V K1 N 100 0 a1 m1 := SxR.mv snC NdX.rf (Nat.le_refl _) (Nat.le_refl _) h7 _ _ _ _ _ (Nat.le_refl _) x1
    obtain ⟨⟨v', v1', v2', v3'⟩, kd', -⟩ := fqC.2.2.1.2.2 k (by omega)
    have : v' = v := nIq (v3'.symm.trans v3) (by omega) (by omega)
    subst this
    obtain ⟨w, w1, w2⟩ := hdC v' v1'
    have g98 : ∀ v, v < V → K_J2_get 98 (nI v) M2 = some ((pl D1 98).getD v 0, M2) ∧ mk M2 ((pl D1 98).getD v 0) = 17 := fun v hv => ⟨ls_get (eC.1.1.1 98 (by decide)).1 (by omega), (eC.1.1.2.1 98 (by decide) v (by omega)).1⟩
    have k21b : mk M2 ((pl D1 112).getD k 0) = 21 := (eC.1.1.2.1 112 (by decide) k hk1).1
    have e3r : mR M2 4003 ((pl D1 112).getD k 0) = a1 := by rw [hM2, mR_msR, ifT ⟨rfl, rfl⟩]
    -- to the loop again
    have fin : ∀ {D4 M4 K4}, EnS 135 136 30000 Kf V s0 D4 M4 K4 → FlQ V E A Wn Kf N D4 M4 s0 → HdV D4 M4 V → (∀ e, e < Wn → WhT V N D4 M4 s0 K4 e) → (∀ e, e < k → AcT V N D4 M4 s0 K4 e) → RlS D4 Mb M4 s0 136 V K4 N (fun m => WhPs s0 N Wn m ∨ AcPs s0 N (k + 1) m) → OtR Db Mb K D4 M4 → K4 ≤ K1 + 1 → AcT V N D4 M4 s0 K4 k → ∃ D' M' K', KL_X0_makeEquations_184 kf (nI (k + 1)) M4 = some (.inl (), M') ∧ LpA V E A Wn Kf N zw za Db Mb K s0 A D' M' K' := fun {D4 M4 K4} f1 f2 f3 f4 f5 f6 f7 f8 f9 => ih (k + 1) kf D4 M4 K4 (by omega) (by omega) ⟨f1, f2, f3, by omega, ⟨f4, fun e' he' => by
      by_cases y : e' = k
      · rw [y]; exact f9
      · exact f5 e' (by omega)⟩, f6, f7⟩
    have head : ∀ {D' M' K'}, (if mI M2 4000 ((pl D1 112).getD k 0) = 0 then KJ_X0_makeEquations_260_184 (KL_X0_makeEquations_184 kf) (nI k) ((pl D1 112).getD k 0) ((pl D1 98).getD v' 0) ((pl D1 112).getD k 0) (-1) M2 else KJ_X0_makeEquations_260_184 (KL_X0_makeEquations_184 kf) (nI k) ((pl D1 112).getD k 0) ((pl D1 98).getD v' 0) ((pl D1 112).getD k 0) (mI M2 3219 ((pl D1 98).getD w 0)) M2) = some (.inl (), M') ∧ LpA V E A Wn Kf N zw za Db Mb K s0 A D' M' K' → ∃ D' M' K', KL_X0_makeEquations_184 (kf + 1) (nI k) M = some (.inl (), M') ∧ LpA V E A Wn Kf N zw za Db Mb K s0 A D' M' K' := fun {D' M' K'} z => by
      refine ⟨D', M', K', ?_, z.2⟩
      conv => lhs; unfold KL_X0_makeEquations_184
      rw [m37, ifF le, g1, ob_some, ifT (Or.inr g2), ifT g2, show K_X0_solvedEx (mR M 4002 ((pl D 112).getD k 0)) M = some (.inl a1, M1) from c1, obS_inl, ← p112, ifT k21, ← hM2, nm_eq, ifT k21b, v2', (g98 v' v1').1, ob_some, ifT (Or.inr (g98 v' v1').2), ifT k21b, w2, ifT (g98 v' v1').2, (g98 w w1).1, ob_some, ifT (Or.inr (g98 w w1).2), ifT (g98 w w1).2]
      exact z.1
    rcases kd' with ⟨kd', -⟩ | ⟨kd', -⟩
    · -- an assignment
      obtain ⟨eD, fqD, hdD, wsD, asD, rlD, otD, snD, frD⟩ := wr4 (-1) eC fqC hdC wsC asC rlC otC
      obtain ⟨M3, hM3⟩ : ∃ q, q = msI M2 4004 ((pl D1 112).getD k 0) (-1) := ⟨_, rfl⟩
      rw [← hM3] at eD fqD hdD wsD asD rlD otD snD frD
      obtain ⟨eF, fqF, hdF, wsF, asF, rlF, otF, snF, frF⟩ := wr3 (mR M3 4003 ((pl D1 112).getD k 0)) eD fqD hdD wsD asD rlD otD
      obtain ⟨M4, hM4⟩ : ∃ q, q = msR M3 4003 ((pl D1 112).getD k 0) (mR M3 4003 ((pl D1 112).getD k 0)) := ⟨_, rfl⟩
      rw [← hM4] at eF fqF hdF wsF asF rlF otF snF frF
      have x4 := SxR.mv (snD.tr snF (Nat.le_refl _)) NdX.rf (Nat.le_refl _) (Nat.le_refl _) h7 _ _ _ _ _ (Nat.le_refl _) x2
      have i3 : mI M3 4000 ((pl D1 112).getD k 0) = 0 := by rw [hM3, mI_msI, ifF (fun z => absurd z.1 (by decide))]; exact kd'
      have act : AcT V N D1 M4 s0 K1 k := ⟨m1, a1, p1, x4, Or.inl ⟨by rw [hM4]; exact i3, by rw [hM4, hM3]; show mI (msI M2 4004 ((pl D1 112).getD k 0) (-1)) 4004 ((pl D1 112).getD k 0) = -1; rw [mI_msI, ifT ⟨rfl, rfl⟩], by rw [hM4, mR_msR, ifT ⟨rfl, rfl⟩, hM3]; exact e3r⟩⟩
      obtain ⟨D', M', K', y1, y2⟩ := fin eF fqF hdF wsF asF rlF otF (Nat.le_succ _) act
      refine head (D' := D') (M' := M') (K' := K') ⟨?_, y2⟩
      have k3 : mk M3 ((pl D1 112).getD k 0) = 21 := by rw [hM3]; exact k21b
      rw [ifT kd']
      unfold KJ_X0_makeEquations_260_184
      rw [ifT k21b, ← hM3, nm_eq, ifT k3, ifT i3, ifT k3, ifT k3, ← hM4, nm_eq, nx, nm_eq]
      exact y1
    · -- a reinit
      obtain ⟨eD, fqD, hdD, wsD, asD, rlD, otD, snD, frD⟩ := wr4 (mI M2 3219 ((pl D1 98).getD w 0)) eC fqC hdC wsC asC rlC otC
      obtain ⟨M3, hM3⟩ : ∃ q, q = msI M2 4004 ((pl D1 112).getD k 0) (mI M2 3219 ((pl D1 98).getD w 0)) := ⟨_, rfl⟩
      rw [← hM3] at eD fqD hdD wsD asD rlD otD snD frD
      have n0 : ¬ mI M2 4000 ((pl D1 112).getD k 0) = 0 := by rw [kd']; decide
      have i3 : mI M3 4000 ((pl D1 112).getD k 0) = 1 := by rw [hM3, mI_msI, ifF (fun z => absurd z.1 (by decide))]; exact kd'
      have k3 : mk M3 ((pl D1 112).getD k 0) = 21 := by rw [hM3]; exact k21b
      have k17 : mk M3 ((pl D1 98).getD v' 0) = 17 := by rw [hM3]; exact (g98 v' v1').2
      have r3' : mR M3 4003 ((pl D1 112).getD k 0) = a1 := by rw [hM3]; exact e3r
      have i8 : ∀ v f, v < V → f ∈ fqI → mI M3 f ((pl D1 98).getD v 0) = mI M2 f ((pl D1 98).getD v 0) := fun v f hv hf => (frD.2.1 98 (by decide) v (by omega)).1 f hf
      have i44 : mI M3 4004 ((pl D1 112).getD k 0) = mI M2 3219 ((pl D1 98).getD w 0) := by rw [hM3, mI_msI, ifT ⟨rfl, rfl⟩]
      have ik : ∀ f, f ∈ [4000, 4001] → ∀ D4 M4, FrQ D1 M3 D4 M4 → mI M4 f ((pl D1 112).getD k 0) = mI M3 f ((pl D1 112).getD k 0) := fun f hf D4 M4 g => (g.2.1 112 (by decide) k hk1).1 f (by simp only [List.mem_cons, List.not_mem_nil, or_false] at hf ⊢; omega)
      have i41 : mI M3 4001 ((pl D1 112).getD k 0) = nI v' := by rw [hM3, mI_msI, ifF (fun z => absurd z.1 (by decide))]; exact v2'
      by_cases sgn : 0 ≤ mI M3 3218 ((pl D1 98).getD v' 0)
      · obtain ⟨eF, fqF, hdF, wsF, asF, rlF, otF, snF, frF⟩ := wr3 (mR M3 4003 ((pl D1 112).getD k 0)) eD fqD hdD wsD asD rlD otD
        obtain ⟨M4, hM4⟩ : ∃ q, q = msR M3 4003 ((pl D1 112).getD k 0) (mR M3 4003 ((pl D1 112).getD k 0)) := ⟨_, rfl⟩
        rw [← hM4] at eF fqF hdF wsF asF rlF otF snF frF
        have x4 := SxR.mv (snD.tr snF (Nat.le_refl _)) NdX.rf (Nat.le_refl _) (Nat.le_refl _) h7 _ _ _ _ _ (Nat.le_refl _) x2
        have act : AcT V N D1 M4 s0 K1 k := ⟨m1, a1, p1, x4, Or.inr ⟨by rw [hM4]; exact i3, v', w, ⟨v1', by rw [hM4]; exact i41⟩, ⟨w1, by rw [hM4]; exact (i8 v' 3217 v1' (by decide)).trans w2⟩, by rw [hM4]; exact i44.trans (i8 w 3219 w1 (by decide)).symm, Or.inl ⟨by rw [hM4]; exact sgn, by rw [hM4, mR_msR, ifT ⟨rfl, rfl⟩]; exact r3'⟩⟩⟩
        obtain ⟨D', M', K', y1, y2⟩ := fin eF fqF hdF wsF asF rlF otF (Nat.le_succ _) act
        refine head (D' := D') (M' := M') (K' := K') ⟨?_, y2⟩
        rw [ifF n0]
        unfold KJ_X0_makeEquations_260_184
        rw [ifT k21b, ← hM3, nm_eq, ifT k3, i3, ifF (by decide), ifT k17, ifT sgn, ifT k3, ifT k3, ← hM4, nm_eq, nx, nm_eq]
        exact y1
      · have x3 := SxR.mv snD NdX.rf (Nat.le_refl _) (Nat.le_refl _) h7 _ _ _ _ _ (Nat.le_refl _) x2
        obtain ⟨t, ch, t1, t2, t3, -⟩ := x3.ch (by decide)
        rcases ka_make2 (op := 7) hx eD.1 ch (Or.inl ⟨rfl, rfl⟩) with ⟨a5, D5, M5, K5, c5, A5, S5, e5, q5, nw5, -⟩ | ⟨w', M', -, -, c3⟩
        rotate_left
        · exfalso
          rw [hgt_eq] at c3
          rcases c3 with c3 | c3 <;> omega
        have H5 := S5.h
        have fr5 := FrQ.sh H5 hx eD.1 A5
        obtain ⟨e5', -⟩ := eD.mv (N := N) hx A5 H5
        have p5 : pl D5 112 = pl D1 112 := H5.2.2.1 112 (by decide)
        have p53 : pl D5 113 = pl D1 113 := H5.2.2.1 113 (by decide)
        have p58 : pl D5 98 = pl D1 98 := H5.2.2.1 98 (by decide)
        have so5 : ∀ l, l = 112 ∨ l = 113 ∨ l = 98 → ∀ j, j < (pl D1 l).length → So M3 M5 ((pl D1 l).getD j 0) := fun l hl j hj => H5.sl hx eD.1.1 (by rcases hl with rfl | rfl | rfl <;> decide) (by rcases hl with rfl | rfl | rfl <;> decide) hj (by have := A5.2.2.2.1.2.2; omega)
        have sn5 := H5.sn hx eD.1
        have fq5 := fqD.fr fr5 eD.2.2.1.1
        have hd5 := hdD.fr fr5 eD.2.2.2.1
        have ws5 : ∀ e, e < Wn → WhT V N D5 M5 s0 K5 e := fun e' he' => (wsD e' he').mv sn5 H5.1 h7 p53 ((so5 113 (Or.inr (Or.inl rfl)) e' (by rw [p113]; omega)).r _)
        have as5 : ∀ e, e < k → AcT V N D5 M5 s0 K5 e := fun e' he' => (asD e' he').mv sn5 H5.1 h7 fr5 (by omega) eD.2.2.2.1 ((so5 112 (Or.inl rfl) e' (by omega)).i _) ((so5 112 (Or.inl rfl) e' (by omega)).r _)
        have s37 := S5.a137 hx eD.1.2.2.1
        have rl5 := rlD.mv sn5 H5.1 h7 (fun j => s37.x j)
        have ot5 := otD.sh H5 eD.1 A5
        obtain ⟨eF, fqF, hdF, wsF, asF, rlF, otF, snF, frF⟩ := wr3 a5 e5' fq5 hd5 ws5 as5 rl5 ot5
        obtain ⟨M6, hM6⟩ : ∃ q, q = msR M5 4003 ((pl D5 112).getD k 0) a5 := ⟨_, rfl⟩
        rw [← hM6] at eF fqF hdF wsF asF rlF otF snF frF
        have x6 := SxR.mv (sn5.tr snF H5.1) NdX.rf H5.1 (Nat.le_refl _) h7 _ _ _ _ _ (Nat.le_refl _) x3
        have frA := fr5.tr frF
        have so6 := so5 112 (Or.inl rfl) k hk1
        have i98 : ∀ v f, v < V → f ∈ fqI → mI M6 f ((pl D5 98).getD v 0) = mI M3 f ((pl D1 98).getD v 0) := fun v f hv hf => by rw [p58]; exact (frA.2.1 98 (by decide) v (by omega)).1 f hf
        have i12 : ∀ f, f ∈ [4000, 4001] → mI M6 f ((pl D5 112).getD k 0) = mI M3 f ((pl D1 112).getD k 0) := fun f hf => by rw [p5]; exact ik f hf D5 M6 frA
        have jK : K1 < K5 := by omega
        have act : AcT V N D5 M6 s0 K5 k := ⟨m1, a1, p1, x6, Or.inr ⟨(i12 4000 (by decide)).trans i3, v', w, ⟨v1', (i12 4001 (by decide)).trans i41⟩, ⟨w1, (i98 v' 3217 v1' (by decide)).trans ((i8 v' 3217 v1' (by decide)).trans w2)⟩, by
          rw [i98 w 3219 w1 (by decide), i8 w 3219 w1 (by decide), hM6]
          show mI M5 4004 ((pl D5 112).getD k 0) = _
          rw [p5, so6.i]; exact i44, Or.inr ⟨by rw [i98 v' 3218 v1' (by decide)]; exact sgn, K1, jK, ?_, ?_, ?_, ?_, ?_⟩⟩⟩
        · obtain ⟨D', M', K', y1, y2⟩ := fin eF fqF hdF wsF asF rlF otF (by omega) act
          refine head (D' := D') (M' := M') (K' := K') ⟨?_, y2⟩
          rw [ifF n0]
          unfold KJ_X0_makeEquations_260_184
          have k5 : mk M5 ((pl D1 112).getD k 0) = 21 := so6.k.trans k3
          rw [ifT k21b, ← hM3, nm_eq, ifT k3, i3, ifF (by decide), ifT k17, ifF sgn, ifT k3, eD.2.1, ifT (eD.1.kx hx), r3', c5, obS_inl, ifT k5, ← p5, ← hM6, nm_eq, nx, nm_eq]
          exact y1
        · rw [hM6, mR_msR, ifT ⟨rfl, rfl⟩, q5]
        · rw [(snF K1 jK).2.1]; exact nw5.1
        · rw [(snF K1 jK).2.2]; exact nw5.2.2.2.2.2.1
        · rw [(snF K1 jK).2.2]; exact nw5.2.2.2.2.2.2.1
        · rw [(snF K1 jK).2.2]; exact nw5.2.2.2.2.2.2.2
end ACTS
