/-! Layer B: K_X0_solve against F_solve, whole -/
set_option maxRecDepth 100000
abbrev slL : List Nat := [141, 142, 177, 178, 179, 180, 181, 182, 183, 184, 185, 186, 187, 188, 189, 190, 191, 194, 195, 196, 197, 201, 202, 203, 204]
abbrev slM : List Nat := [0, 1, 109, 191, 192, 193, 196, 198, 199, 200, 205, 206, 207, 208, 209, 210, 211, 212, 213, 214, 215, 216, 217, 218, 219, 220, 221]
section ZSOLVE
variable {C : PC} {P : Nat → Prop} {mss fss : List Nat} {D D' D1 : FQ} {M M' M1 M3 : CM} {σ σ' s s1 s7 : TS} {z7 : Nat → Nat} {B V I Bm K N E A Wn q qs j f : Nat} {r p : Int32}
theorem z_solve (W : FW C B P mss fss D M σ) (h : FP C P mss D M σ z7 V I Bm K N E A Wn q qs) (h30 : ¬ mI M 30 1 = 0) (h108 : ¬ tI σ 108 = 0) (hc : cN C + 1 ≤ 601024 ∧ cS C + 8 ≤ 7293034) :
    (∃ M' s', K_X0_solve M = some (-5, M') ∧ F_solve σ = some (-5, s') ∧ SlF C B P mss fss M σ M' s' z7 V I Bm K N E A Wn q qs) ∨
    ∃ nb M' s', K_X0_solve M = some (nI nb, M') ∧ F_solve σ = some (nI nb, s') ∧ SlG C B P mss fss M σ M' s' z7 V I Bm K N E A Wn q qs nb := by
  obtain ⟨X, ⟨⟨n1, n2, n3⟩, ⟨n4, n5⟩, -⟩, -, ⟨⟨e1, e2, e3, e4⟩, -⟩, ⟨⟨-, c2, c3⟩, -⟩, ⟨⟨-, -, d3, d4⟩, -⟩, ⟨⟨-, -, q24⟩, -, -, rlP⟩, -, -, -, -, z129, z130, -⟩ := id h
  have V96 := X.2.1.1
  have fu := fu2
  have h7N : N ≤ 70000 := by omega
  -- the start, the component
  obtain ⟨M3, hM3⟩ : ∃ y, y = msI (msI M 46 1 0) 91 1 0 := ⟨_, rfl⟩
  have k3 : KF D [46, 91] [] [] [] M M3 := by rw [hM3]; exact (KF.rf.wI rfl TZ.one).wI rfl TZ.one
  have h46 : mI M3 46 1 = 0 ∧ mI M3 91 1 = 0 := by
    rw [hM3]; exact ⟨by rw [mI_msI, ifF (by omega), mI_msI, ifT ⟨rfl, rfl⟩], by rw [mI_msI, ifT ⟨rfl, rfl⟩]⟩
  -- the start, the twin
  obtain ⟨s5, hs5⟩ : ∃ y, y = tsI (tsI (tsI (tsI σ 0 0) 109 0) 110 0) 111 0 := ⟨_, rfl⟩
  obtain ⟨s6, hs6⟩ : ∃ y, y = tsI s5 126 (tI s5 128) := ⟨_, rfl⟩
  obtain ⟨s7, hs7⟩ : ∃ y, y = tsI s6 143 (tI s6 144) := ⟨_, rfl⟩
  have f5 : Ft [0, 109, 110, 111] σ s5 := by rw [hs5]; exact ((((Ft.rf _ σ).p_tsI rfl).p_tsI rfl).p_tsI rfl).p_tsI rfl
  have f6 : Ft [126] s5 s6 := by rw [hs6]; exact (Ft.rf _ s5).p_tsI rfl
  have f7' : Ft [143] s6 s7 := by rw [hs7]; exact (Ft.rf _ s6).p_tsI rfl
  have f7 : Ft [0, 109, 110, 111, 126, 143] σ s7 := ((f5.mono (by decide)).tr (f6.mono (by decide))).tr (f7'.mono (by decide))
  have z7s : tI s7 0 = 0 ∧ tI s7 109 = 0 ∧ tI s7 110 = 0 ∧ tI s7 111 = 0 := by
    rw [(f7' 0 rfl).1, (f7' 109 rfl).1, (f7' 110 rfl).1, (f7' 111 rfl).1, (f6 0 rfl).1, (f6 109 rfl).1, (f6 110 rfl).1, (f6 111 rfl).1, hs5]
    simp only [tI_tsI]
    refine ⟨?_, ?_, ?_, ?_⟩ <;> simp +decide
  have t126 : tI s7 126 = nI N := by rw [(f7' 126 rfl).1, hs6, tI_tsI, ifT rfl, (f5 128 rfl).1]; exact n5
  have t143 : tI s7 143 = nI E := by rw [hs7, tI_tsI, ifT rfl, (f6 144 rfl).1, (f5 144 rfl).1]; exact e2
  have t144 : tI s7 144 = nI E := (f7 144 rfl).1.trans e2
  obtain ⟨s23, a1, fa, a3, -⟩ := t_s48 e3 E 0 FU s7 (by omega) (by omega) t144
  obtain ⟨s30, b1, fb, b3, -⟩ := t_s109 80000 0 FU s23 (by omega) (by omega)
  have g30 : Ft slL s7 s30 := (fa.mono (by decide)).tr (fb.mono (by decide))
  -- what was read and what is flat, from here
  obtain ⟨W3, w3⟩ := W.kf k3 rfl rfl rfl f7 (by decide)
  have h3 := h.sv W w3 (SvR.kf (I := [46, 91]) (A0 := []) k3 rfl rfl ⟨rfl, rfl⟩ rfl) rfl rfl (fun g hg n _ => (f7 g (by
    have : ∀ g, g ∈ [121, 122, 123, 124, 134, 162] → ([0, 109, 110, 111, 126, 143] : List Nat).contains g = false := by decide
    exact this g hg)).2.2.1 n) f7 (by decide) (by decide)
  have F30 : Ft sv1 s7 s30 := (fa.mono (by decide)).tr (fb.mono (by decide))
  have p30 : PA D M3 s7 M3 s30 := ⟨KF.rf, F30⟩
  obtain ⟨M4, s32, hd, sg, c, x1, x2, ⟨k4, f32⟩, alL, alM, go, h9⟩ := z_aliases W3 h3 p30
  have g32 : Ft slL s7 s32 := g30.tr (f32.mono (by decide))
  have al : AlS D V E M3 s7 M4 s32 hd sg c := ⟨⟨p30.1.tr (k4.mono (by decide) rfl (by decide) rfl), p30.2.tr (f32.mono (by decide))⟩, alL, alM, go, fun k hk => by
    obtain ⟨y1, y2, -⟩ := a3 k (Nat.zero_le _) hk
    rw [(f32 141 rfl).2.2.1, (f32 142 rfl).2.2.1, (fb 141 rfl).2.2.1, (fb 142 rfl).2.2.1, y1, y2]
    exact ⟨rfl, rfl⟩⟩
  have h0 : tI s32 0 = 0 := by rw [(f32 0 rfl).1, (fb 0 rfl).1, (fa 0 rfl).1]; exact z7s.1
  have gon : GoN s32 E := g_aliases (s := s30) (by rw [(fb 144 rfl).1, (fa 144 rfl).1]; exact t144) e3 x2
  have sv4 : SvR slJ slA D M3 D M4 := SvR.kf k4 (by decide) rfl ⟨rfl, rfl⟩ rfl
  have eK0 : K_X0_solve M = obS (K_X0_makeUnknowns M4) (fun w12 M8 => ob (K_X0_fails w12 M8) fun r14 M13 => some (r14, M13)) fun r9 M8 => obS (K_X0_makeEquations M8) (fun w21 M17 => ob (K_X0_fails w21 M17) fun r23 M22 => some (r23, M22)) fun r18 M17 => obS (K_X0_lowerIndex M17) (fun w30 M26 => ob (K_X0_fails w30 M26) fun r32 M31 => some (r32, M31)) fun r27 M26 => obS (K_X0_chooseStates M26) (fun w39 M35 => ob (K_X0_fails w39 M35) fun r41 M40 => some (r41, M40)) fun r36 M35 => obS (K_X0_makeBlocks M35) (fun w48 M44 => ob (K_X0_fails w48 M44) fun r50 M49 => some (r50, M49)) fun r45 M44 => nm (msI M44 46 1 1) fun M53 => some (mI M53 75 1, M53) := by
    unfold K_X0_solve
    rw [ifF h30, nm_eq, nm_eq, ← hM3, x1, ob_some]
  have eT0 : F_solve σ = ob (F_makeUnknowns s32) fun r37 s36 => nm (tsL s36 203 0) fun s40 => ob (L_solve_146 FU 0 s40) fun q67 s68 => J_solve_214 s68 := by
    unfold F_solve
    rw [ifF h108, nm_eq, nm_eq, nm_eq, nm_eq, ← hs5, nm_eq, ← hs6, nm_eq, ← hs7, show L_solve_48 FU 0 s7 = some ((), s23) from a1, ob_some, show L_solve_109 FU 0 s23 = some ((), s30) from b1, ob_some, x2, ob_some]
  have bad : ∀ {D1 M1 s1 r p}, SvR slJ slA D M3 D1 M1 → PoW D1 M1 → FXb M1 → Ft slU s7 s1 → Nd5 s7 s1 N → tI s1 0 = r ∧ tI s1 1 = p → K_X0_fails (mn M1) (wM M1 r p) = some (-5, flM M1 r p) ∧ F_faulted s1 = some (-5, flT s1) ∧ SlF C B P mss fss M σ (flM M1 r p) (flT s1) z7 V I Bm K N E A Wn q qs := fun sv hp fx f nd h0 => sol_bad W h k3 h46 f7 z7s.2 sv hp fx f nd h0 hc
  have kpw : ∀ {D1 M1 M2 I0 A0}, PoW D1 M1 → FXb M1 → 167 ≤ mn M1 → KF D1 I0 [] A0 [] M1 M2 → [601, 602, 603, 4202].all (fun k => !I0.contains k) = true → PoW D1 M2 ∧ FXb M2 := fun {D1 M1 M2 I0 A0} hp fx hn k hI => by
    have hI' : ∀ k, k ∈ [601, 602, 603, 4202] → I0.contains k = false := fun k hk => by simpa using List.all_eq_true.mp hI k hk
    exact ⟨hp.kf k (hI' 4202 (by decide)) rfl rfl, fx.mv hn k.1 (fun q _ => k.r rfl _) (fun q hq => k.i (hI' _ (by
      have : ∀ q, q ∈ bfI → q.1 ∈ [601, 602, 603, 4202] := by decide
      exact this q hq)) _)⟩
  have n167 := W.n167
  rcases z_makeUnknowns W3 h3 h0 al h9 with ⟨M', s', w, y1, y2, M1, r, p, y3, ⟨y4, y5⟩, y6, y7, y8, y9⟩ | ⟨M8, s36, U, y1, y2, al8, y0, y204, un, uv, de, ⟨hc1, hc2, hc3⟩, k8, f36⟩
  · left
    obtain ⟨q1, q2⟩ := kpw W3.2.1 W3.2.2.2.1 W3.n167 y3 (by decide)
    have fx : Ft sv1 s7 (tsL s' 203 0) := y6.p_tsL rfl
    obtain ⟨v1, v2, v3⟩ := bad (D1 := D) (M1 := M1) (s1 := tsL s' 203 0) (r := r) (p := p) (SvR.kf y3 (by decide) rfl ⟨rfl, rfl⟩ rfl) q1 q2 (fx.mono (by decide)) (Nd5.ft fx rfl) ⟨y7, y8⟩
    refine ⟨_, _, ?_, ?_, v3⟩
    · rw [eK0, y1, obS_inr, y4, y5, v1, ob_some]
    · have nb : tI (tsL s' 203 0) 0 ≠ 0 := by show tI s' 0 ≠ 0; rw [y7]; exact y9
      rw [eT0, y2, ob_some, nm_eq, t_146b nb, ob_some, t_214b' nb]
  have g36 : Ft slL s7 s36 := g32.tr (f36.mono (by decide))
  have h202 : ∀ j, j < 80000 → tA s36 202 j = 0 := fun j hj => by
    rw [(f36 202 rfl).2.2.1, (f32 202 rfl).2.2.1]; exact b3 j (Nat.zero_le _) hj
  have sv8 : SvR slJ slA D M3 D M8 := sv4.tr (SvR.kf k8 (by decide) rfl ⟨rfl, rfl⟩ rfl)
  obtain ⟨D', M17, K1, K2, s68, m1, m2, so, sv17⟩ := z_makeEquations W3 h3 al8 y0 un uv de h202
  obtain ⟨s0, hs0⟩ : ∃ y, y = tsL s36 203 0 := ⟨_, rfl⟩
  rw [← hs0] at m2 so
  have f0 : Ft [203] s36 s0 := by rw [hs0]; exact (Ft.rf _ s36).p_tsL rfl
  have f68 : Ft [201, 202, 203] s0 s68 := so.2.2.2.2.2
  have f3668 : Ft [201, 202, 203] s36 s68 := (f0.mono (by decide)).tr f68
  have q0 : Ft slL s7 s0 := g36.tr (f0.mono (by decide))
  have q68 : Ft slL s7 s68 := q0.tr (f68.mono (by decide))
  obtain ⟨al81, al82, al83, ⟨go1, go2, go3, go4⟩, al85⟩ := id al8
  have U180 := un.1.2.2
  have sv17' : SvR slJ slA D M3 D' M17 := sv8.tr (sv17.mono (by decide) (by decide))
  have un17 : UkR V M17 s68 U := by
    exact un.mv (sv17.2.2.2.2.1 57 rfl) (f3668 197 rfl).1 (fun u => ⟨sv17.2.2.2.2.2.2.1 119 u rfl (by decide), sv17.2.2.2.2.2.2.1 120 u rfl (by decide), sv17.2.2.2.2.2.2.1 121 u rfl (by decide)⟩) (fun u => ⟨(f3668 179 rfl).2.2.1 u, (f3668 187 rfl).2.2.1 u, (f3668 188 rfl).2.2.1 u, (f3668 189 rfl).2.2.1 u⟩)
  have hU : ∀ v u x, v < V → LfU s0 v u x → u < U := fun v u x hv l => by
    obtain ⟨-, ⟨w, w1, w2, w3'⟩, c1, -⟩ := l
    have hw : hd v < V := by have := (al82 v hv).1; omega
    rw [(f0 177 rfl).2.2.1] at w2
    rw [(f0 179 rfl).2.2.1] at w3'
    have : w = hd v := nIq (w2.symm.trans (al83 v hv).1.2) (by omega) (by omega)
    subst this
    rcases uv (hd v) hw with ⟨-, u', u1, u2, u3⟩ | ⟨-, -, y⟩
    · rw [nIq (w3'.symm.trans u3) (by omega) (by omega)]; exact u1
    · exact absurd (w3'.symm.trans y) (nI_m1 (by omega))
  have h194 : ∀ e, e < E → tA s68 194 e = -1 ∧ tA s68 195 e = -1 := fun e he => by
    rw [(f3668 194 rfl).2.2.1, (f3668 195 rfl).2.2.1, (f36 194 rfl).2.2.1, (f36 195 rfl).2.2.1, (f32 194 rfl).2.2.1, (f32 195 rfl).2.2.1, (fb 194 rfl).2.2.1, (fb 195 rfl).2.2.1]
    exact (a3 e (Nat.zero_le _) he).2.2
  have t0_68 : tI s68 0 = 0 := (f3668 0 rfl).1.trans y0
  have ix0 : IdxR V E U E K1 N D' M17 s68 := ix_start V96 so un17 t0_68 ⟨(q68 129 rfl).1.trans ((f7 129 rfl).1.trans z129), (q68 130 rfl).1.trans ((f7 130 rfl).1.trans z130)⟩ ((q68 143 rfl).1.trans t143) ((q68 126 rfl).1.trans t126) ⟨by omega, by omega⟩ h194 hU
  have hh : hcU s68 U = hcU s36 U ∧ udc s68 E = hcU s36 U := by
    refine ⟨cnB_eq (fun u _ => by rw [(f3668 189 rfl).2.2.1]), ?_⟩
    have : udc s68 E = cnB (fun e => decide (tA s36 180 e = 0)) E := cnB_eq (fun e he => by
      rw [(f3668 180 rfl).2.2.1, (h194 e he).1]
      exact decide_eq_decide.mpr ⟨fun z => z.1, fun z => ⟨z, rfl⟩⟩)
    omega
  have eK1 : K_X0_solve M = obS (K_X0_lowerIndex M17) (fun w30 M26 => ob (K_X0_fails w30 M26) fun r32 M31 => some (r32, M31)) fun r27 M26 => obS (K_X0_chooseStates M26) (fun w39 M35 => ob (K_X0_fails w39 M35) fun r41 M40 => some (r41, M40)) fun r36 M35 => obS (K_X0_makeBlocks M35) (fun w48 M44 => ob (K_X0_fails w48 M44) fun r50 M49 => some (r50, M49)) fun r45 M44 => nm (msI M44 46 1 1) fun M53 => some (mI M53 75 1, M53) := by
    rw [eK0, y1, obS_inl, m1, obS_inl]
  have eT1 : F_solve σ = ob (F_reduce s68) fun r114 s113 => J_solve_225 s113 := by
    rw [eT0, y2, ob_some, nm_eq, ← hs0, m2, ob_some]
    unfold J_solve_214
    rw [t_isBad0 t0_68, ob_some, ifT rfl]
  rcases z_lower V96 ix0 so.1.2.2.2.1.1 ((q68 144 rfl).1.trans t144) hh (fun k hk => (h194 k hk).1) with ⟨w, M', s', q', l1, l2, ⟨Dx1, Mx, Kx, Ax, svx, lw, lM⟩, l4, l5, l6, l7⟩ | ⟨D2, M26, K1', N', U', S', s3, l1, l2, rdw, ⟨lU, lS, lK, lN⟩, sv26, f26, ⟨nu, sn⟩, l180, lwi⟩
  · left
    obtain ⟨v1, v2, v3⟩ := bad (r := 52) (p := q') (sv17'.tr (svx.mono (by decide) (by decide))) Ax.1 Ax.2.1 ((q68.mono (by decide)).tr (l4.mono (by decide))) (Nd5.tr (Nd5.ft q68 rfl) l7 (Nat.le_refl _)) ⟨l5, l6⟩
    refine ⟨_, _, ?_, ?_, v3⟩
    · rw [eK1, l1, obS_inr, lw, lM, v1, ob_some]
    · rw [eT1, l2, ob_some, t_225b (by rw [l5]; decide)]
  have ix1 : IdxR V E U' S' K1' N' D2 M26 s3 := rdw.1
  have t0_3 : tI s3 0 = 0 := ix1.2.2.2.2.2.2.1
  have sv26' : SvR slJ slA D M3 D2 M26 := sv17'.tr (sv26.mono (by decide) (by decide))
  have g3 : Ft slU s7 s3 := (q68.mono (by decide)).tr (f26.mono (by decide))
  have nd3 : Nd5 s7 s3 N := Nd5.tr (Nd5.ft q68 rfl) nu.1 (Nat.le_refl _)
  have A26 := ix1.1.1
  have eK2 : K_X0_solve M = obS (K_X0_chooseStates M26) (fun w39 M35 => ob (K_X0_fails w39 M35) fun r41 M40 => some (r41, M40)) fun r36 M35 => obS (K_X0_makeBlocks M35) (fun w48 M44 => ob (K_X0_fails w48 M44) fun r50 M49 => some (r50, M49)) fun r45 M44 => nm (msI M44 46 1 1) fun M53 => some (mI M53 75 1, M53) := by
    rw [eK1, l1, obS_inl]
  have eT2 : F_solve σ = ob (F_chooseStates s3) fun r109 s108 => J_solve_236 s108 := by
    rw [eT1, l2, ob_some]
    unfold J_solve_225
    rw [t_isBad0 t0_3, ob_some, ifT rfl]
  rcases z_choose ix1 lwi.1 with ⟨w, M', s', M1, r, p, c1', c2', ck, cw, cM, cr, cf, cc⟩ | ⟨M35, s4, c1', c2', ck, cf, c198, ix2, ro, st, ccn⟩
  · left
    obtain ⟨q1, q2⟩ := kpw A26.1 A26.2.1 A26.2.2.1 ck (by decide)
    have svc : SvR slJ slA D M3 D2 M1 := sv26'.tr (SvR.kf ck (by decide) rfl ⟨rfl, rfl⟩ rfl)
    rcases cc with cc | ⟨cc1, rfl, rfl, cc2⟩
    · obtain ⟨v1, v2, v3⟩ := bad (r := r) (p := p) svc q1 q2 (g3.tr (cf.mono (by decide))) (Nd5.tr nd3 (Nd5.ft cf rfl) (Nat.le_refl _)) cc
      refine ⟨_, _, ?_, ?_, v3⟩
      · rw [eK2, c1', obS_inr, cw, cM, v1, ob_some]
      · rw [eT2, c2', ob_some, t_236b (by rw [cc.1]; exact cr)]
    · obtain ⟨sb, hsb⟩ : ∃ y, y = tsI (tsI s' 0 55) 1 (-1) := ⟨_, rfl⟩
      have fsb : Ft [0, 1] s' sb := by rw [hsb]; exact ((Ft.rf _ s').p_tsI rfl).p_tsI rfl
      have vb : tI sb 0 = 55 ∧ tI sb 1 = -1 := by rw [hsb]; exact ⟨rfl, rfl⟩
      have fcb : Ft chT s3 sb := cf.tr (fsb.mono (by decide))
      obtain ⟨v1, v2, v3⟩ := bad (r := 55) (p := -1) svc q1 q2 (g3.tr (fcb.mono (by decide))) (Nd5.tr nd3 (Nd5.ft fcb rfl) (Nat.le_refl _)) vb
      refine ⟨_, _, ?_, ?_, v3⟩
      · rw [eK2, c1', obS_inr, cw, cM, v1, ob_some]
      · rw [eT2, c2', ob_some]
        unfold J_solve_236
        rw [t_isBad0 cc1, ob_some, ifT rfl, ifF cc2, t_bad cc1, ob_some, ← hsb, t_259b (by rw [vb.1]; decide)]
  have t0_4 : tI s4 0 = 0 := ix2.2.2.2.2.2.2.1
  have sv35 : SvR slJ slA D M3 D2 M35 := sv26'.tr (SvR.kf ck (by decide) rfl ⟨rfl, rfl⟩ rfl)
  have g4 : Ft slU s7 s4 := g3.tr (cf.mono (by decide))
  have nd4 : Nd5 s7 s4 N := Nd5.tr nd3 (Nd5.ft cf rfl) (Nat.le_refl _)
  have A35 := ix2.1.1
  have eK3 : K_X0_solve M = obS (K_X0_makeBlocks M35) (fun w48 M44 => ob (K_X0_fails w48 M44) fun r50 M49 => some (r50, M49)) fun r45 M44 => nm (msI M44 46 1 1) fun M53 => some (mI M53 75 1, M53) := by
    rw [eK2, c1', obS_inl]
  have eT3 : F_solve σ = ob (F_makeBlocks s4) fun r98 s97 => J_solve_270 s97 := by
    rw [eT2, c2', ob_some]
    unfold J_solve_236
    rw [t_isBad0 t0_4, ob_some, ifT rfl, ifT c198]
    unfold J_solve_259
    rw [t_isBad0 t0_4, ob_some, ifT rfl]
  rcases z_blocks ix2 ro ccn with ⟨w, M', s', M1, r, p, d1', d2', dk, dw, dM, dr, df, d0, d0'⟩ | ⟨M44, s5', d1', d2', dk, df, d0, dO, bl⟩
  · left
    obtain ⟨q1, q2⟩ := kpw A35.1 A35.2.1 A35.2.2.1 dk (by decide)
    obtain ⟨v1, v2, v3⟩ := bad (r := r) (p := p) (sv35.tr (SvR.kf dk (by decide) rfl ⟨rfl, rfl⟩ rfl)) q1 q2 (g4.tr (df.mono (by decide))) (Nd5.tr nd4 (Nd5.ft df rfl) (Nat.le_refl _)) ⟨d0, d0'⟩
    refine ⟨_, _, ?_, ?_, v3⟩
    · rw [eK3, d1', obS_inr, dw, dM, v1, ob_some]
    · rw [eT3, d2', ob_some, t_270b (by rw [d0]; exact dr)]
  right
  -- solvable
  obtain ⟨Mf, hMf⟩ : ∃ y, y = msI M44 46 1 1 := ⟨_, rfl⟩
  obtain ⟨sf, hsf⟩ : ∃ y, y = tsI (tsI s5' 221 (tI s5' 126)) 109 1 := ⟨_, rfl⟩
  have kf : KF D2 [46] [] [] [] M44 Mf := by rw [hMf]; exact KF.rf.wI rfl TZ.one
  have ff : Ft [109, 221] s5' sf := by rw [hsf]; exact ((Ft.rf _ s5').p_tsI rfl).p_tsI rfl
  have sv44 : SvR slJ slA D M3 D2 M44 := sv35.tr (SvR.kf dk (by decide) rfl ⟨rfl, rfl⟩ rfl)
  have sv0 : SvR slI slA D M D2 Mf := ((SvR.kf k3 (by decide) rfl ⟨rfl, rfl⟩ rfl : SvR slI slA D M D M3).tr (sv44.mono (by decide) (by decide))).tr (SvR.kf kf (by decide) rfl ⟨rfl, rfl⟩ rfl)
  have g5 : Ft slU s7 s5' := g4.tr (df.mono (by decide))
  have F : Ft slT σ sf := ((f7.mono (by decide)).tr (g5.mono (by decide))).tr (ff.mono (by decide))
  have f3f : Ft slM s3 sf := ((cf.mono (by decide)).tr (df.mono (by decide))).tr (ff.mono (by decide))
  have k3f : KF D2 [46, 74, 75, 83, 84] [] (chA ++ mbA) [] M26 Mf := ((ck.mono (by decide) rfl (by decide) rfl).tr (dk.mono (by decide) rfl (by decide) rfl)).tr (kf.mono (by decide) rfl (by decide) rfl)
  have k4f : KF D2 [46, 75, 83, 84] [] mbA [] M35 Mf := (dk.mono (by decide) rfl (by decide) rfl).tr (kf.mono (by decide) rfl (by decide) rfl)
  have oF : ∀ f o, o ≠ 1 → mI Mf f o = mI M35 f o := fun f o ho => by rw [hMf, mI_msI, ifF (fun z => ho z.2)]; exact dO f o ho
  have f4f : Ft [0, 1, 109, 191, 196, 199, 200, 205, 208, 209, 210, 211, 212, 213, 214, 215, 216, 217, 218, 219, 220, 221] s4 sf := (df.mono (by decide)).tr (ff.mono (by decide))
  have ixF : IdxR V E U' S' K1' N' D2 Mf sf := ix2.kg0 k4f (T := [1, 109, 191, 196, 199, 200, 205, 208, 209, 210, 211, 212, 213, 214, 215, 216, 217, 218, 219, 220, 221, 0]) ((df.mono (by decide)).tr (ff.mono (by decide))) (fun f o ho => oF f o (by omega)) (by decide) (by decide) (by rw [t0_4, (ff 0 rfl).1]; exact d0) (by decide)
  have v221 : tI sf 221 = tI sf 126 := by
    rw [hsf]
    simp only [tI_tsI]
    simp +decide
  obtain ⟨nb, fb', ⟨b75, b208, -⟩, -⟩ := id bl
  have m75 : mI Mf 75 1 = nI nb := by rw [kf.i rfl]; exact b75
  have t208 : tI sf 208 = nI nb := (ff 208 rfl).1.trans b208
  have pwf := ixF.1.1
  obtain ⟨Wf, wf⟩ := W.sv sv0 pwf.1 pwf.2.1 rfl F (by decide)
  have ndf : ∀ g, g ∈ [121, 122, 123, 124, 134, 162] → ∀ n, n < N → tA sf g n = tA σ g n := fun g hg n hn => by
    by_cases z : g = 162
    · rw [z]; exact (F 162 rfl).2.2.1 n
    · have m : g ∈ [121, 122, 123, 124, 134] := by
        simp only [List.mem_cons, List.not_mem_nil, or_false] at hg ⊢; omega
      rw [Nd5.tr nd3 (Nd5.ft f3f rfl) (Nat.le_refl _) g m n hn]
      exact (f7 g (by
        have : ∀ g, g ∈ [121, 122, 123, 124, 134] → ([0, 109, 110, 111, 126, 143] : List Nat).contains g = false := by decide
        exact this g m)).2.2.1 n
  have hf := h.sv W wf sv0 rfl rfl ndf F (by decide) (by decide)
  have Q0 : Ft ([0, 109, 110, 111, 126, 143] ++ slL) σ s0 := (f7.mono (by decide)).tr (q0.mono (by decide))
  have n4 : Nd4 σ s0 N := Nd4.ft Q0 rfl
  have nk : NdK D M σ D M8 s0 106 K N := ⟨fun j hj => ⟨rfl, fun g hg => by
    have : ∀ g, g ∈ [3400, 3401, 3402, 3403, 3404] → ([57, 3219] : List Nat).contains g = false ∧ (3219 :: alI).contains g = false ∧ ([46, 91] : List Nat).contains g = false := by decide
    rw [k8.i (this g hg).1, k4.i (this g hg).2.1, k3.i (this g hg).2.2], fun g hg => by rw [k8.r rfl, k4.r rfl, k3.r rfl]⟩, fun g hg n _ => (Q0 g (by
    have : ∀ g, g ∈ [121, 122, 123, 124, 134, 162] → ([0, 109, 110, 111, 126, 143] ++ slL).contains g = false := by decide
    exact this g hg)).2.2.1 n, fun v => (Q0 94 rfl).2.2.1 v⟩
  have V98 : V ≤ (pl D 98).length := X.1.1.1
  have r17 : ∀ v, v < V → ∀ f, f ∈ [3217, 3218, 3219] → mI M17 f ((pl D 98).getD v 0) = mI M8 f ((pl D 98).getD v 0) := fun v hv f hf => by
    have m : 3000 ≤ f ∧ ([65, 136, 604, 605, 4004] : List Nat).contains f = false := by
      have : ∀ f, f ∈ [3217, 3218, 3219] → 3000 ≤ f ∧ ([65, 136, 604, 605, 4004] : List Nat).contains f = false := by decide
      exact this f hf
    obtain ⟨-, o2, o3⟩ := W.2.1.2.1 98 (by decide) v (by omega)
    have hl := (W.2.1.1 98 (flL_A 98 (by decide))).2.2
    have hX : flX 98 = 96 := rfl
    have n8 : mn M8 = mn M := by rw [k8.n, k4.n, k3.n]
    exact (sv17.2.2.2.2.2.2.2.1 _ (by rw [n8]; exact o2.2) o2.1 (by rw [tgo_d o2.1, o3]; unfold tg; omega) (by rw [tgo_d o2.1, o3]; unfold tg; omega)).1 f m.1 m.2
  have p98 : pl D' 98 = pl D 98 := sv17.2.2.1 98 (by decide) (by decide)
  have SV : SvS V E A Wn q U' S' K1' K2 N' hd sg c D2 Mf sf := by
    refine sv_make (T3 := slM) (A0 := chA ++ mbA) V96 so hU (fun r hr => ?_) nu sn (sv26.2.2.2.2.2.2.2.2 rfl) sv26.2.2.1 (sv26.2.2.2.2.1 66 rfl) f26 lN lK lU k3f f3f (by decide) ixF (fun u hu => ?_) (st.mv (k4f.i rfl 1) (k4f.ga rfl) (f4f 198 rfl).1 (f4f 206 rfl).1 (f4f 192 rfl).2.2.1 (f4f 207 rfl).2.2.1) (bl.mv (kf.i rfl 1) (fun a _ j => kf.ga rfl j) (ff 208 rfl).1 (fun a ha j => (ff a (by
      have : ∀ a, a ∈ [180, 191, 192, 196, 209, 210, 211, 212, 213] → ([109, 221] : List Nat).contains a = false := by decide
      exact this a ha)).2.2.1 j)) (fun v hv => ?_) (fun v hv => ?_) (fun v hv => ?_) ⟨(sv17.2.2.2.2.1 66 rfl).trans go2, (f3668 181 rfl).1.trans go3⟩ v221
    · -- relations
      obtain ⟨k, k1, k2, ⟨k6', k7⟩, ⟨k31, k32⟩, n, k4', k5⟩ := rlP r hr
      have i0 : isR σ (k + 1) := NdR.rel k32 k31
      have nl := k5.lt
      have tm : ∀ g, g ∈ [121, 145, 151, 153, 162, 174, 175] → ∀ j, tA s0 g j = tA σ g j := fun g hg j => (Q0 g (by
        have : ∀ g, g ∈ [121, 145, 151, 153, 162, 174, 175] → ([0, 109, 110, 111, 126, 143] ++ slL).contains g = false := by decide
        exact this g hg)).2.2.1 j
      have is0 : isR s0 (k + 1) := by unfold isR at *; rw [tm 121 (by decide)]; exact i0
      have oc0 : OcT s0 N 100 n (k + 1) := OcT.mv n4 (Nat.le_refl _) _ _ _ _ (Nat.le_refl _) k5
      refine ⟨k + 1, ⟨(tm 153 (by decide) r).trans k2, (tm 162 (by decide) _).trans k7⟩, ⟨is0, by omega⟩, ?_, fun H w z => ?_⟩
      · rcases k4' with ⟨e, x1', x2'⟩ | ⟨i, x1', x2'⟩ | ⟨i, x1', x2'⟩
        · left
          have z0 : tA s0 180 e = 0 := by
            by_cases z : tA s0 180 e = 0
            · exact z
            · exfalso
              have e180 : tA s0 180 e = tA s32 180 e := ((f0 180 rfl).2.2.1 e).trans ((f36 180 rfl).2.2.1 e)
              have q3 : Ft ([0, 109, 110, 111, 126, 143] ++ slL) σ s32 := (f7.mono (by decide)).tr (g32.mono (by decide))
              have no := gon e x1' (by rw [← e180]; exact z) n nl.2 (by rw [(q3 174 rfl).2.2.1, (q3 175 rfl).2.2.1]; exact x2')
              exact no N 100 (k + 1) (OcT.mv (Nd4.ft q3 rfl) (Nat.le_refl _) _ _ _ _ (Nat.le_refl _) k5) (by
                unfold isR at *
                rw [(q3 121 rfl).2.2.1]; exact i0)
          obtain ⟨w1, w2⟩ := al85 e x1'
          exact ⟨e, n, x1', z0, by rw [(f0 141 rfl).2.2.1, (f0 142 rfl).2.2.1, w1, w2, (f7 174 rfl).2.2.1, (f7 175 rfl).2.2.1]; exact x2', oc0⟩
        · exact Or.inr (Or.inr ⟨i, n, x1', (tm 151 (by decide) i).trans x2', oc0⟩)
        · exact Or.inr (Or.inl ⟨i, n, x1', (tm 145 (by decide) i).trans x2', oc0⟩)
      · obtain ⟨v, x, hv, l⟩ := NdR.wl h7N V96 100 H 1 _ (k + 1) w (NdR.mv nk (Nat.le_refl _) (Nat.le_refl _) (Nat.le_refl _) 100 100 _ _ _ (Nat.le_refl _) k32) z
        exact hU v w x hv l
    · obtain ⟨y, y1', y2', y3', y4'⟩ := ro u hu
      exact ⟨y, y1', (k4f.ga rfl u).trans y2', ((f4f 192 rfl).2.2.1 u).trans y3', by rw [(f4f 189 rfl).2.2.1]; exact y4'⟩
    · have := al82 v hv
      rw [(q68 94 rfl).2.2.1, (q68 94 rfl).2.2.1]; exact this
    · obtain ⟨⟨b1', b2'⟩, b3', b4'⟩ := al83 v hv
      rw [p98, r17 v hv 3217 (by decide), r17 v hv 3218 (by decide), (f3668 177 rfl).2.2.1, (f3668 178 rfl).2.2.1]
      exact ⟨⟨b1', b2'⟩, b3', b4'⟩
    · have := uv v hv
      rw [p98, r17 v hv 3219 (by decide), (f3668 179 rfl).2.2.1, (q68 94 rfl).2.2.1]
      exact this
  refine ⟨nb, Mf, sf, ?_, ?_, D2, U', S', K1', K2, N', hd, sg, c, Wf, hf, SV, lN, ⟨m75, t208⟩, ⟨fun o o1 o2 => Fz.so sv0.2.1 (by have := W.n167; omega) (fun z => by rw [tgo_s (by omega)] at z; unfold TZ tg at z; omega), sv0.2.2.2.2.1, sv0.2.2.2.2.2.1, F⟩, ⟨by rw [hMf, mI_msI, ifT ⟨rfl, rfl⟩], ?_⟩, by rw [hsf, tI_tsI, ifT rfl], ?_, ?_⟩
  · rw [eK3, d1', obS_inl, ← hMf, nm_eq, m75]
  · rw [eT3, d2', ob_some]
    unfold J_solve_270
    rw [t_isBad0 d0, ob_some, ifT rfl, nm_eq, nm_eq, ← hsf, t208]
  · rw [kf.i rfl, sv44.2.2.2.2.1 91 rfl]; exact h46.2
  · rw [(ff 110 rfl).1, (g5 110 rfl).1]; exact z7s.2.2.1
  · rw [(ff 111 rfl).1, (g5 111 rfl).1]; exact z7s.2.2.2
end ZSOLVE
