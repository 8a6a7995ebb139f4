/-! Layer B: K_X0_makeEquations, whole -/
set_option maxRecDepth 100000
section MKEQ2
variable {C : PC} {P : Nat → Prop} {mss fss S I I' A0 A' : List Nat} {D D1 : FQ} {M0 M M' M1 : CM} {σ s s0 s' : TS} {B V II Bm K Kf N E A Wn q qs n c U x0 : Nat} {z7 : Nat → Nat} {hd : Nat → Nat} {sg : Nat → Int32}
theorem OlV.mono (h : OlV I D M M1) (hI : I.all I'.contains = true) : OlV I' D M M1 := fun o a b c d => ⟨fun f y z => (h o a b c d).1 f y (ncon hI z), (h o a b c d).2⟩
theorem SvR.mono (h : SvR I A0 D M D1 M1) (hI : I.all I'.contains = true) (hA : A0.all A'.contains = true) : SvR I' A' D M D1 M1 := ⟨h.1, h.2.1, h.2.2.1, h.2.2.2.1, fun f z => h.2.2.2.2.1 f (ncon hI z), h.2.2.2.2.2.1, fun a j z => h.2.2.2.2.2.2.1 a j (ncon hA z), h.2.2.2.2.2.2.2.1.mono hI, fun z => h.2.2.2.2.2.2.2.2 (ncon hI z)⟩
theorem k_clear (hk : mk M x0 = 4) : K_X3_clear x0 M = some ((), msI (msI M 604 x0 0) 605 x0 0) := by
  unfold K_X3_clear
  rw [ifT hk, nm_eq, ifT (show mk (msI M 604 x0 0) x0 = 4 from hk), nm_eq]
theorem z_makeEquations (W : FW C B P mss fss D M0 σ) (h : FP C P mss D M0 σ z7 V II Bm K N E A Wn q qs) (al : AlS D V E M0 σ M s hd sg c) (t0 : tI s 0 = 0) (un : UkR V M s U) (uv : UvR D V σ M s hd U) (de : DeR V E σ s hd) (h202 : ∀ j, j < 80000 → tA s 202 j = 0) : ∃ D' M' K1 K2 s', K_X0_makeEquations M = some (.inl (), M') ∧ L_solve_146 FU 0 (tsL s 203 0) = some ((), s') ∧ SoE V E A Wn K N (tsL s 203 0) D' M' K1 K2 s' ∧ SvR [65, 136, 604, 605, 4004] [128, 129, 130, 131, 132] D M D' M' := by
  obtain ⟨s0, hs0⟩ : ∃ q, q = tsL s 203 0 := ⟨_, rfl⟩
  rw [← hs0]
  have f0 : Ft [203] s s0 := by rw [hs0]; exact (Ft.rf _ s).p_tsL rfl
  have ta : ∀ k j, tA s0 k j = tA s k j := fun k j => by rw [hs0]; rfl
  have al0 : AlS D V E M0 σ M s0 hd sg c := al.mv (I' := []) (A' := []) KF.rf f0 ⟨rfl, rfl, by decide⟩ ⟨rfl, rfl, rfl, rfl⟩ (by decide)
  have un0 : UkR V M s0 U := by rw [hs0]; exact un
  have uv0 : UvR D V σ M s0 hd U := by rw [hs0]; exact uv
  have de0 : DeR V E σ s0 hd := by rw [hs0]; exact de
  have t00 : tI s0 0 = 0 := (f0 0 rfl).1.trans t0
  have X : FlY z7 C P D mss M0 σ V II Bm := h.1
  obtain ⟨va, hdv⟩ := VaD.of W X al0 un0 uv0
  have fq := FlQ.of W h al0 un0 uv0 de0
  obtain ⟨-, ⟨⟨n1, n2, n3⟩, ⟨n4, -⟩, ndA⟩, -, ⟨⟨-, e144, -⟩, -⟩, -, -, -, -, -, -, sm, -⟩ := id h
  obtain ⟨ze, zf, za, zw, z1, z2, z3, z4, -⟩ := sm
  have h7 : N ≤ 70000 := by omega
  have V96 := X.2.1.1
  obtain ⟨⟨k, f⟩, -, -, -, eqs⟩ := id al0
  have n4d : Nd4 σ s0 N := Nd4.ft f rfl
  have fu := fu2
  -- the sets are cleared
  have fx0 : FXb M0 := W.2.2.2.1
  have hn0 := W.n167
  have k133 : mk M 133 = 4 := (k.k 133).trans (fx0.1 (133, 4, 0) (by decide)).1
  have k135 : mk M 135 = 4 := (k.k 135).trans (fx0.1 (135, 4, 0) (by decide)).1
  obtain ⟨Mb, hMb⟩ : ∃ q, q = msI (msR (msI (msI (msI (msI M 604 133 0) 605 133 0) 604 135 0) 605 135 0) 69 1 133) 65 1 0 := ⟨_, rfl⟩
  have tz : ∀ o, 117 ≤ o ∧ o < 167 → TZ (tgof D o) := fun o ho => by rw [tgo_s ho.2]; exact Or.inr (Or.inl ho)
  have kb : KF D [65, 604, 605] [69] [] [] M Mb := by
    rw [hMb]
    exact (((((KF.rf.wI rfl (tz 133 ⟨by decide, by decide⟩)).wI rfl (tz 133 ⟨by decide, by decide⟩)).wI rfl (tz 135 ⟨by decide, by decide⟩)).wI rfl (tz 135 ⟨by decide, by decide⟩)).wR rfl TZ.one).wI rfl TZ.one
  have k0 : KF D (svI ++ [65, 604, 605]) [69] svA [] M0 Mb := (k.mono (by decide) rfl (by decide) rfl).tr (kb.mono (by decide) (by decide) rfl rfl)
  have fxb : FXb Mb := fx0.mv hn0 k0.1 (fun q hq => k0.r (by
    have : ∀ q, q ∈ bfR → ([69] : List Nat).contains q.1 = false := by decide
    exact this q hq) _) (fun q hq => k0.i (by
    have : ∀ q, q ∈ bfI → (svI ++ [65, 604, 605]).contains q.1 = false := by decide
    exact this q hq) _)
  have pw : PoW D Mb := W.2.1.kf k0 (by decide) (by decide) rfl
  have rm := rm_same (D := D) (M := M0) (M' := Mb) ⟨k0.n, k0.2.2.2.2.2.2.2.2⟩ (fun o => ⟨k0.r (by decide) o, k0.r (by decide) o, k0.gl o⟩)
  have rm0 := W.rm
  have rmF := W.2.2.2.2
  have ar : ∀ x0 l X, mI Mb 604 x0 = 0 → ArS x0 l X D Mb 0 := fun x0 l X e => ⟨pw, fxb, by rw [k0.n]; exact hn0, ⟨e, Nat.zero_le _, Nat.zero_le _⟩, by rw [rm.1]; omega, by rw [rm.2]; omega⟩
  have A1 : ArS 133 134 40000 D Mb 0 := ar _ _ _ (by rw [hMb]; rfl)
  have A2 : ArS 135 136 30000 D Mb 0 := ar _ _ _ (by rw [hMb]; rfl)
  have fr := FrQ.kf kb rfl rfl rfl (fun _ => kb.ga rfl _)
  have hz : ∀ e, e < E → RtS s0 N 141 e (ze e) ∧ RtS s0 N 142 e (zf e) := fun e he => ⟨(z1 e he).1.mv n4d (Nat.le_refl _) (eqs e he).1, (z1 e he).2.mv n4d (Nat.le_refl _) (eqs e he).2⟩
  have L0 : LpE V E A Wn K N ze zf D Mb s0 0 D Mb 0 s0 := by
    refine ⟨⟨A1, by rw [hMb]; rfl, ⟨n2, n3, fun k hk => (ndA.mv n4d (k + 1) (by omega) (by omega)).2⟩, va.fr fr⟩, A2, fq.fr fr n2, by rw [hMb]; rfl, ⟨by rw [hs0]; rfl, Nat.zero_le _⟩, fun e he => absurd he (Nat.not_lt_zero e), (RlS.nil (fun _ => rfl)).im (fun m => ⟨fun ⟨e, n, he, _⟩ => absurd he (Nat.not_lt_zero e), fun z => z.elim⟩), ⟨Ft.rf _ _, fun e u h1 h2 h3 => ?_⟩, SvR.rf, fun _ => rfl, hdv.fr fr va.1⟩
    have := fq.2.1.1
    rw [ta]; exact h202 _ (by omega)
  obtain ⟨D1, M1, K1, s1, a1, a2, L1⟩ := z_mkEqs V96 h7 t00 ((f 144 rfl).1.trans e144) hz (by omega) E 0 FU FU D Mb 0 s0 (by omega) (by have := fq.2.1.1; omega) (by have := fq.2.1.1; omega) L0
  obtain ⟨e1, B1, fq1, m65, ⟨t203, -⟩, eq1, rl1, ⟨f1, -⟩, sv1', -, hd1⟩ := L1
  obtain ⟨Mc, hMc⟩ : ∃ q, q = msR M1 69 1 135 := ⟨_, rfl⟩
  have kc : KF D1 [] [69] [] [] M1 Mc := by rw [hMc]; exact KF.rf.wR rfl TZ.one
  have frc := FrQ.kf kc rfl rfl rfl (fun _ => kc.ga rfl _)
  have Bc : ArS 135 136 30000 D1 Mc 0 := B1.kf kc rfl rfl rfl
  have Ac : ArS 133 134 40000 D1 Mc K1 := e1.1.kf kc rfl rfl rfl
  have ec : EnS 135 136 30000 K V s0 D1 Mc 0 := ⟨Bc, by rw [hMc, mR_msR, ifT ⟨rfl, rfl⟩], e1.2.2.1, e1.2.2.2.fr frc⟩
  have hzw : ∀ e, e < Wn → RtS s0 N 145 e (zw e) := fun e he => (z3 e he).mv n4d (Nat.le_refl _) ((f 145 rfl).2.2.1 e)
  have hza : ∀ e, e < A → RtS s0 N 151 e (za e) := fun e he => (z2 e he).mv n4d (Nat.le_refl _) ((f 151 rfl).2.2.1 e)
  obtain ⟨D2, M2, Ka, b1, L2⟩ := k_mkWh (E := E) (A := A) (Db := D1) (Mb := Mc) (K := K1) V96 h7 hzw (by omega) Wn 0 FU D1 Mc 0 (by omega) (by have := fq.2.2.2.1.1; omega) ⟨ec, fq1.fr frc e1.2.2.1.1, hd1.fr frc e1.2.2.2.1, Nat.zero_le _, fun e he => absurd he (Nat.not_lt_zero e), (RlS.nil (fun _ => rfl)).im (fun m => ⟨fun ⟨e, n, he, _⟩ => absurd he (Nat.not_lt_zero e), fun z => z.elim⟩), ⟨Ac, SnK.rf, SvR.rf, fun _ _ _ => rfl⟩⟩
  obtain ⟨w1, w2, w3, w4, w5, w6, w7⟩ := L2
  obtain ⟨D3, M3, Kb, c1, L3⟩ := k_mkAc (E := E) (Db := D1) (Mb := Mc) (K := K1) V96 h7 hza (zw := zw) (Wn := Wn) (by omega) A 0 FU D2 M2 Ka (by omega) (by have := fq.2.2.1.1; omega) ⟨w1, w2, w3, by have : sumZ za 0 = 0 := rfl; omega, ⟨w5, fun e he => absurd he (Nat.not_lt_zero e)⟩, w6.im (fun m => ⟨fun z => z.elim id (fun ⟨e, n, he, _⟩ => absurd he (Nat.not_lt_zero e)), Or.inl⟩), w7⟩
  obtain ⟨x1, x2, x3, -, ⟨x4, x5⟩, x6, ⟨o1, o2, o3, o4⟩⟩ := L3
  obtain ⟨Md, hMd⟩ : ∃ q, q = msR M3 69 1 133 := ⟨_, rfl⟩
  have kd : KF D3 [] [69] [] [] M3 Md := by rw [hMd]; exact KF.rf.wR rfl TZ.one
  have frd := FrQ.kf kd rfl rfl rfl (fun _ => kd.ga rfl _)
  have nd167 : ∀ {D M K x0 l X H}, ArS x0 l X D M K → NdS2 x0 l X H → ∀ j, j < K → 167 ≤ (pl D l).getD j 0 := fun A hx j hj => (A.1.2.1 _ hx.nu.1 j (by have := A.2.2.2.1.2.1; omega)).2.1.1
  have s69 : ∀ {D M K x0 l X H} (r : Nat), ArS x0 l X D M K → NdS2 x0 l X H → SnK D M D (msR M 69 1 r) l K := fun r A hx j hj => ⟨rfl, fun _ => rfl, fun f => by rw [mR_msR, ifF (by have := nd167 A hx j hj; omega)]⟩
  have sn1 : SnK D1 M1 D1 Mc 134 K1 := by rw [hMc]; exact s69 135 e1.1 NdS2.one
  have sn3 : SnK D3 M3 D3 Md 134 K1 := by rw [hMd]; exact s69 133 o1 NdS2.one
  have sn4 : SnK D3 M3 D3 Md 136 Kb := by rw [hMd]; exact s69 133 x1.1 NdS2.two
  have snT : SnK D1 M1 D3 Md 134 K1 := (sn1.tr o2 (Nat.le_refl _)).tr sn3 (Nat.le_refl _)
  have mXe : ∀ o j, o < 133 → mX Md o j = mX M1 o j := fun o j ho => by
    rw [hMd]; show mX M3 o j = _
    rw [o4 o j ho, hMc]; rfl
  have mAe : ∀ o j, o < 133 → mA Md o j = mA M1 o j := fun o j ho => by
    rw [hMd]; show mA M3 o j = _
    rw [o3.2.2.2.2.2.2.1 o j rfl ho, hMc]; rfl
  have svd : SvR [65, 136, 604, 605, 4004] [128, 129, 130, 131, 132] D M D3 Md := (((((SvR.kf kb (by decide) rfl ⟨rfl, rfl⟩ rfl) : SvR [65, 136, 604, 605, 4004] [128, 129, 130, 131, 132] D M D Mb).tr (sv1'.mono (by decide) (by decide))).tr (SvR.kf kc rfl rfl ⟨rfl, rfl⟩ rfl)).tr (o3.mono (by decide) (by decide))).tr (SvR.kf kd rfl rfl ⟨rfl, rfl⟩ rfl)
  have p98 : V ≤ (pl D3 98).length := x1.2.2.2.1
  refine ⟨D3, Md, K1, Kb, s1, ?_, a2, ⟨⟨⟨o1.kf kd rfl rfl rfl, by rw [hMd, mR_msR, ifT ⟨rfl, rfl⟩], x1.2.2.1, x1.2.2.2.fr frd⟩, x1.1.kf kd rfl rfl rfl, x3.fr frd p98, x2.fr frd x1.2.2.1.1⟩, ⟨?_, t203⟩, fun e he => (eq1 e he).mv snT (Nat.le_refl _) h7 (mXe _ _ (by decide)) (mXe _ _ (by decide)) (mAe _ _ (by decide)) (mAe _ _ (by decide)) (mAe _ _ (by decide)) (fun u hu => mAe _ _ (by decide)) (fun u hu => rfl), ⟨fun e he => (x4 e he).mv sn4 (Nat.le_refl _) h7 rfl (by rw [hMd, mR_msR, ifF (fun z => absurd z.1 (by decide))]), fun e he => (x5 e he).mv sn4 (Nat.le_refl _) h7 frd (by have := x2.2.2.1.2.1; omega) p98 (by rw [hMd]; rfl) (by rw [hMd, mR_msR, ifF (fun z => absurd z.1 (by decide))])⟩, fun m r pm i hr e162 => ?_, f1⟩, svd⟩
  · unfold K_X0_makeEquations
    rw [k_clear k133, ob_some, k_clear (x0 := 135) (by exact k135), ob_some, nm_eq, nm_eq, ← hMb, show KL_X0_makeEquations_29 FU 0 Mb = some (.inl (), M1) from a1, obS_inl, ← hMc, nm_eq, show KL_X0_makeEquations_136 FU 0 Mc = some (.inl (), M2) from b1, obS_inl, show KL_X0_makeEquations_184 FU 0 M2 = some (.inl (), M3) from c1, obS_inl, ← hMd, nm_eq]
  · rw [hMd]; show mI M3 65 1 = _
    rw [o3.2.2.2.2.1 65 rfl, hMc]; exact m65
  · -- relations
    have mX3 : ∀ j, mX Md 137 j = mX M3 137 j := fun j => by rw [hMd]; rfl
    have mXc : ∀ j, mX Mc 137 j = mX M1 137 j := fun j => by rw [hMc]; rfl
    have oth : (WhPs s0 N Wn m ∨ AcPs s0 N A m) → SxR D3 Md s0 136 V Kb N 100 1 (mX Md 137 r) m := fun pm => by
      rw [mX3]
      exact SxR.mv sn4 NdX.rf (Nat.le_refl _) (Nat.le_refl _) h7 _ _ _ _ _ (Nat.le_refl _) (x6.1 m r pm i hr e162)
    rcases pm with pm | pm | pm
    · rcases x6.2 r hr with y | ⟨m', p', i', q'⟩
      · left
        rw [mX3, y, mXc]
        exact SxR.mv snT NdX.rf (Nat.le_refl _) (Nat.le_refl _) h7 _ _ _ _ _ (Nat.le_refl _) (rl1.1 m r pm i hr e162)
      · have u1 := UnS.eq fq n3 h7 (Nat.le_refl _) m r pm i hr e162
        have u2 : tA s0 153 r = nI m' ∧ m' < 100000 := p'.elim (fun p => UnS.wh fq n3 h7 (Nat.le_refl _) m' r p i' hr q') (fun p => UnS.ac fq n3 h7 (Nat.le_refl _) m' r p i' hr q')
        have : m = m' := nIq (u1.1.symm.trans u2.1) u1.2 u2.2
        subst this
        exact Or.inr (oth p')
    · exact Or.inr (oth (Or.inl pm))
    · exact Or.inr (oth (Or.inr pm))
end MKEQ2
