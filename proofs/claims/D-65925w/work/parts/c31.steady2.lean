/-! Layer B: steady states, the call, both sides -/
set_option maxRecDepth 100000
section STEADY2
variable {pq : Bool} {C C' : PC} {B : Nat} {P : Nat → Prop} {mss fss : List Nat} {V U S q A Wn K1 K2 N e r w v u b n i j k a m h wo nb t0 X ns : Nat} {D : FQ} {M M' M1 Mb M2 : CM} {σ σ' s σ1 s1 s2 : TS} {x x1 x2 x3 y z y1 y2 y3 : Int32} {I A0 T : List Nat}
theorem z_steady (w : RnW C B P mss fss V U S q A Wn K1 K2 N D M σ) (d : VaX V U Wn D M σ) (c1 : cN C + 2 ≤ 601024) (c2 : cS C + 16 ≤ 7293034) (h91 : ¬ mI M 91 1 = 0) (h110 : ¬ tI σ 110 = 0) (h92 : (mI M 92 1 = 0 ∧ tI σ 111 = 0) ∨ (¬ mI M 92 1 = 0 ∧ ¬ tI σ 111 = 0)) (h45 : mI M 4 1 = tI σ 2 ∧ mI M 5 1 = tI σ 3) : ∃ r M' σ', K_X0_steady M = some (r, M') ∧ F_steady σ = some (r, σ') ∧ LiO V U Wn D M σ M' σ' := by
  have n94 : liT.contains 94 = false := rfl
  have n1 : ¬ (1 : Int32) = 0 := by decide
  have fu : 1000 < FU := by unfold FU; decide
  have stay : LiO V U Wn D M σ M σ := ⟨⟨0, by decide, KF.rf⟩, Ft.rf _ _, PaK.rf, d, h45⟩
  obtain ⟨ns, st⟩ := w.sta
  obtain ⟨⟨h74, h198, n24, -⟩, -⟩ := id st
  obtain ⟨⟨V96, V98, U180, -, q24, -⟩, ⟨h15, h107⟩, ⟨-, h197⟩, ⟨-, h154⟩, ⟨⟨h39, h148⟩, W12, Wl⟩, -⟩ := w.st
  unfold K_X0_steady F_steady
  rw [ifF h91, ifF h110]
  rcases h92 with ⟨h92, h111⟩ | ⟨h92, h111⟩
  · rw [ifT h92, ifT h111, h198]
    by_cases hn : ns = 0
    · subst hn
      obtain ⟨M1, a1, a2, -⟩ := k_keep w.1 h15 h39 ⟨V98, V96⟩ ⟨Wl, W12⟩
      obtain ⟨M2, hM2⟩ : ∃ Y, Y = msI M1 86 1 1 := ⟨_, rfl⟩
      have k2 : KF D [86] [] [] [] M1 M2 := by rw [hM2]; exact KF.rf.wI rfl TZ.one
      have kk : KF D [86, 800] [] [152, 153, 154, 155, 156, 157] [] M M2 := (a2.mono (by decide) (by decide) (by decide) (by decide)).tr (k2.mono (by decide) (by decide) (by decide) (by decide))
      have e74 : mI M2 74 1 ≤ 0 := by rw [kk.i rfl, h74]; decide
      obtain ⟨g, hg⟩ := fuEx
      refine ⟨0, M2, σ, ?_, by rw [ifT (show nI 0 = (0 : Int32) from rfl)], ⟨0, by decide, kk.mono (by decide) (by decide) (by decide) (by decide)⟩, Ft.rf _ _, PaK.of kk rfl, d.up kk (Ft.rf [] σ) (by decide) (by decide) (by decide), by rw [kk.i rfl]; exact h45.1, by rw [kk.i rfl]; exact h45.2⟩
      unfold K_X0_seek
      rw [nm_eq, a1, ob_some, nm_eq, ← hM2, hg, KL_X0_seek_7, ifT e74, obS_inl, ifT e74, obS_inl]
    · have hz : ¬ nI ns = 0 := fun z => hn (nIq (b := 0) z (by omega) (by omega))
      rw [ifF hz, nm_eq, nm_eq, nm_eq]
      obtain ⟨s3, hs3⟩ : ∃ Y, Y = tsI σ 0 0 := ⟨_, rfl⟩
      have f3 : Ft [0] σ s3 := by rw [hs3]; exact (Ft.rf _ σ).p_tsI rfl
      have h03 : tI s3 0 = 0 := by rw [hs3]; rfl
      have w0 := w.kf KF.rf (I0 := []) (A0 := []) rfl rfl f3 (by decide) h03 PaK.rf
      have d0 : VaX V U Wn D M s3 := ⟨h03, d.2.1.ft f3 (by decide), (f3 171 rfl).1.trans d.2.2.1, d.2.2.2.trans (f3 222 rfl).1.symm⟩
      obtain ⟨M1, s5, a1, a2, g1, ke⟩ := z_keep w0 d0.2.1
      have h05 : tI s5 0 = 0 := (g1.2.1 0 rfl).1.trans h03
      have w1 := w0.kf g1.1 (by decide) (by decide) g1.2.1 (by decide) h05 g1.2.2
      have d1 : VaX V U Wn D M1 s5 := d0.up g1.1 g1.2.1 (by decide) (by decide) (by decide)
      obtain ⟨g2, w2, d2⟩ := fl86 w1 d1 1 (Or.inr rfl)
      have k2 : KF D [86] [] [] [] M1 (msI M1 86 1 1) := KF.rf.wI rfl TZ.one
      have ke2 := ke.up g2 rfl (by decide) (by decide)
      obtain ⟨M2, hM2⟩ : ∃ Y, Y = msI M1 86 1 1 := ⟨_, rfl⟩
      rw [← hM2] at g2 w2 d2 k2 ke2
      have st2 : SaR ns U M2 s5 := ((st.up (KF.rf (D := D) (I := []) (A := [])) f3 rfl ⟨rfl, rfl⟩ rfl).up g1.1 g1.2.1 rfl ⟨rfl, rfl⟩ (by decide)).up k2 (Ft.rf [] s5) rfl ⟨rfl, rfl⟩ rfl
      have g02 : RsK liI liA liT V D M s3 M2 s5 := (g1.mono (by decide) (by decide) (by decide)).tr (g2.mono (by decide) (by decide) (by decide)) n94
      have cn : Cn4 U V q Wn s5 := ⟨⟨(g1.2.1 197 rfl).1.trans ((f3 197 rfl).1.trans h197), (g1.2.1 107 rfl).1.trans ((f3 107 rfl).1.trans h107), (g1.2.1 154 rfl).1.trans ((f3 154 rfl).1.trans h154), (g1.2.1 148 rfl).1.trans ((f3 148 rfl).1.trans h148)⟩, U180, V96, q24, W12⟩
      have e90 : mI M 90 1 = tI s3 222 := d0.2.2.2
      rw [← hs3, a1, ob_some, show F_keep 0 s3 = _ from a2, ob_some]
      -- what comes of a fault
      have fin : ∀ (M' : CM) (σ' : TS) (wo : Nat), FoR true skI skA sk2T 2 V D M2 s5 M' σ' wo → Sl0 s5 σ' → ∃ r M7 σ7, (ob (K_X0_back M') fun r14 M13 => nm (msI M13 90 1 (mI M 90 1)) fun M17 => ob (K_X0_fails wo M17) fun r19 M18 => some (r19, M18)) = some (r, M7) ∧ (ob (F_back 0 σ') fun r131 s130 => nm (tsI s130 222 (tI s3 222)) fun s134 => ob (F_faulted s134) fun r136 s135 => some (r136, s135)) = some (r, σ7) ∧ LiO V U Wn D M σ M7 σ7 := fun M' σ' wo fo hS => by
        obtain ⟨n, M3, σ3, ⟨q1, q2, q3⟩, q4, q5, q6, q7, ⟨o1, o2, o3, o4, o5⟩, h171⟩ := back_fs (I' := liI) (A' := liA) (T' := liT) ⟨by decide, by decide, by decide⟩ ⟨by decide, by decide, by decide⟩ ⟨by decide, by decide, by decide⟩ w2 ke2 fo rfl (by decide) hS c1 c2
        obtain ⟨M4, hM4⟩ : ∃ Y, Y = msI M3 90 1 (mI M 90 1) := ⟨_, rfl⟩
        have k4 : KF D [90] [] [] [] M3 M4 := by rw [hM4]; exact KF.rf.wI rfl TZ.one
        have o2' : mk M4 wo = 7 := (k4.k _).trans o2
        obtain ⟨M5, hM5⟩ : ∃ Y, Y = msI (msI M4 4 1 (mI M4 1200 wo)) 5 1 (mI M4 1201 wo) := ⟨_, rfl⟩
        have k5 : KF D [4, 5] [] [] [] M4 M5 := by rw [hM5]; exact (KF.rf.wI rfl TZ.one).wI rfl TZ.one
        have k35 : KF D [4, 5, 90] [] [] [] M3 M5 := (k4.mono (by decide) (by decide) (by decide) (by decide)).tr (k5.mono (by decide) (by decide) (by decide) (by decide))
        obtain ⟨σ4, hσ4⟩ : ∃ Y, Y = tsI σ3 222 (tI s3 222) := ⟨_, rfl⟩
        have f4 : Ft [0, 2, 3, 222] σ3 (flT σ4) := by
          rw [hσ4]; exact ((Ft.rf [0, 2, 3, 222] σ3).p_tsI rfl).tr (flT_f.mono (by decide))
        refine ⟨-5, M5, flT σ4, by rw [q2, ob_some, nm_eq, ← hM4, k_failW o2', ob_some, hM5], by rw [q3, ob_some, nm_eq, ← hσ4, t_faulted, ob_some], ⟨n, q1, RB.pre g02.1 n _ (RB.kf (k35.mono (by decide) (by decide) (by decide) (by decide)) n q4)⟩, ((f3.mono (by decide)).tr g02.2.1).tr (q5.tr (f4.mono (by decide))), fun v hv z => ?_, ⟨rfl, ?_, ?_, ?_⟩, ?_, ?_⟩
        · have z3 : tA s3 94 v = 1 := by rw [(f3 94 rfl).2.2.1]; exact z
          rw [k35.i rfl, q7 v hv (by rw [(g02.2.1 94 rfl).2.2.1]; exact z3), g02.2.2 v hv z3]
        · obtain ⟨v1, v2, v3, v4, v5⟩ := q6.ft f4 (by decide)
          exact ⟨(k35.i rfl _).trans v1, fun u hu => by rw [k35.ga rfl, k35.ga rfl]; exact v2 u hu, fun v hv z => by rw [k35.i rfl, k35.i rfl]; exact v3 v hv z, fun r hr z => by rw [k35.ga rfl]; exact v4 r hr z, fun j hj => by rw [k35.i rfl]; exact v5 j hj⟩
        · exact (f4 171 rfl).1.trans h171
        · rw [k5.i rfl, hM4, mI_msI, ifT ⟨rfl, rfl⟩, e90, hσ4]; rfl
        · rw [hM5, mI_msI, ifF (by omega), mI_msI, ifT ⟨rfl, rfl⟩, k4.i rfl, o3, hσ4]; rfl
        · rw [hM5, mI_msI, ifT ⟨rfl, rfl⟩, k4.i rfl, o4, hσ4]; rfl
      rcases sk_loop (by omega) (tI s3 222) 10 1 FU FU M2 s5 (by omega) (by omega) (by omega) (by omega) w2 d2 st2 with ⟨M', σ', wx, y, k1, k3, fo⟩ | ⟨a, b, M', σ', k1, k3, g, ab, w3, d3, st3⟩
      · change KL_X0_seek_7 FU 1 M2 = _ at k1
        change L_steady_43 FU (tI s3 222) 1 s5 = _ at k3
        have y0 : y = .inl () := by
          cases y with
          | inl y => rfl
          | inr y => exact absurd (t_43i FU _ _ _ k3) fo.ne
        subst y0
        have e1 : K_X0_seek M1 = some (.inr wx, M') := by
          unfold K_X0_seek
          rw [nm_eq, ← hM2, k1, obS_inr]
        rw [e1, obS_inr, k3, obS_inl]
        unfold J_steady_328
        rw [t_isBad1 fo.ne, ob_some, ifF n1]
        exact fin M' σ' wx fo (ps_43 FU _ _ s5 cn _ _ k3).1
      · change KL_X0_seek_7 FU 1 M2 = _ at k1
        change L_steady_43 FU (tI s3 222) 1 s5 = _ at k3
        rcases ab with ⟨rfl, rfl⟩ | ⟨r, rfl, rfl⟩
        · obtain ⟨-, -, -, -, -, -, -, -, -, hc⟩ := w3.st
          have t0 : ¬ mI M' 74 1 ≤ 0 := by rw [st3.1.1, show (0 : Int32) = nI 0 from rfl, bI_le (by omega) (by decide)]; omega
          have e1 : K_X0_seek M1 = some (.inr (mn M'), wM M' 44 0) := by
            unfold K_X0_seek
            rw [nm_eq, ← hM2, k1, obS_inl, ifF t0, k_wrong hc.1 hc.2, ob_some, ifT (wM_k _ _ _)]
          have eb : ElB V D M' σ' := ⟨⟨d3.1.1, d3.2.2.2.2.1.1, d3.2.2.2.2.1.2⟩, hc, w3.lt.1, w3.lt.2⟩
          have fo : FoR true skI skA sk2T 2 V D M2 s5 (wM M' 44 0) (badT σ' 44) (mn M') := ((FoR.eb (pq := true) (I := skI) (A := skA) (T := sk2T) eb 44 (by decide) ⟨rfl, rfl⟩).mono (nb' := 2) (by decide) (by decide) (by decide) (by decide)).pre g rfl
          rw [e1, obS_inr, k3, obS_inl]
          unfold J_steady_328
          rw [t_isBad0 d3.1.1, ob_some, ifT (rfl : (0 : Int32) = 0), t_badT d3.1.1, ob_some]
          exact fin _ _ _ fo ((ps_43 FU _ _ s5 cn _ _ k3).1.tr (Sl0.ft (badT_f (σ := σ') (r := 44)) (by decide)))
        · have e1 : K_X0_seek M1 = some (.inl r, M') := by
            unfold K_X0_seek
            rw [nm_eq, ← hM2, k1, obS_inr]
          rw [e1, obS_inl, k3, obS_inr]
          have gg : RsK liI liA liT V D M s3 M' σ' := g02.tr (g.mono (by decide) (by decide) (by decide)) n94
          refine ⟨r, M', σ', rfl, rfl, ⟨0, by decide, gg.1⟩, (f3.mono (by decide)).tr gg.2.1, fun v hv z => gg.2.2 v hv (by rw [(f3 94 rfl).2.2.1]; exact z), d3.vx, ?_, ?_⟩
          · rw [g.1.i rfl, k2.i rfl, g1.1.i rfl, (g.2.1 2 rfl).1, (g1.2.1 2 rfl).1, (f3 2 rfl).1]; exact h45.1
          · rw [g.1.i rfl, k2.i rfl, g1.1.i rfl, (g.2.1 3 rfl).1, (g1.2.1 3 rfl).1, (f3 3 rfl).1]; exact h45.2
  · rw [ifF h92, ifF h111]; exact ⟨_, _, _, rfl, rfl, stay⟩
end STEADY2
