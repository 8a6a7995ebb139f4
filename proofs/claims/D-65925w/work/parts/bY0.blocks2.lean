/-! Layer B: K_X0_makeBlocks against F_makeBlocks, whole -/
set_option maxRecDepth 100000
section BLOCKS2
variable {D : FQ} {M M' M0 M1 : CM} {s s' s0 s1 : TS} {V E U S K N : Nat}
abbrev P0T : TjS := (fun _ => 0, fun _ => 0, fun _ => 0, [], 0, 0, fun _ => 0, none)
theorem P0T_i (S : Nat) (c : Nat → Bool) : TjI S c P0T := by
  refine ⟨fun f hf => absurd rfl hf, ⟨List.nodup_nil, fun f => ⟨fun z => (by cases z), fun z => absurd rfl z.1⟩⟩, fun f hf => absurd rfl hf, ⟨rfl, fun b hb => absurd hb (Nat.not_lt_zero b)⟩, ?_, fun _ b hb => absurd hb (Nat.not_lt_zero b)⟩
  have : ∀ n, cnB (fun f => decide (wkT P0T f ≠ 0)) n = 0 := fun n => by
    induction n with
    | zero => rfl
    | succ n ih => rw [cnB_step, ih, ifF (show ¬ decide (wkT P0T n ≠ 0) = true from fun z => absurd rfl (of_decide_eq_true z))]
  exact this S
theorem z_blocks (i : IdxR V E U S K N D M s) (ro : RolR M s U) (cn : cnB (fun u => decide (¬ tA s 192 u = 2)) U = cnB (c2B s) S) :
    (∃ w M' s' M1 r p, K_X0_makeBlocks M = some (.inr w, M') ∧ F_makeBlocks s = some ((), s') ∧ KF D wkI [] mbA [] M M1 ∧ w = mn M1 ∧ M' = wM M1 r p ∧ r ≠ 0 ∧ Ft mbS s s' ∧ tI s' 0 = r ∧ tI s' 1 = p) ∨
    ∃ M' s', K_X0_makeBlocks M = some (.inl (), M') ∧ F_makeBlocks s = some ((), s') ∧ KF D wkI [] mbA [] M M' ∧ Ft mbS s s' ∧ tI s' 0 = 0 ∧ (∀ f o, o ≠ 1 → mI M' f o = mI M f o) ∧ BlR S U M' s' := by
  have fu := fu2
  have hU := i.2.2.1.1.2.2
  have hS := i.2.1.2.2.1
  obtain ⟨M1, m1, m2, m3⟩ := k_none D M
  obtain ⟨s1, hs1⟩ : ∃ q, q = tsI s 205 2 := ⟨_, rfl⟩
  have f1 : Ft [205] s s1 := by rw [hs1]; exact (Ft.rf _ s).p_tsI rfl
  obtain ⟨s2, n1, n2, n3⟩ := t_b7 hU U 0 FU s1 (by omega) (by omega) ((f1 197 rfl).1.trans i.2.2.1.1.2.1)
  have f2 : Ft [191, 205] s s2 := (f1.mono (by decide)).tr (n2.mono (by decide))
  have i2 : IdxR V E U S K N D M1 s2 := i.kg m2 f2 (fun f o _ => m2.i rfl o) (by decide) (by decide) (by decide)
  have nn : ∀ u, u < U → tA s2 191 u = -1 := fun u hu => (n3 u).1 ⟨Nat.zero_le _, hu⟩
  have ro2 : RolR M1 s2 U := fun u hu => by
    obtain ⟨q, q1, q2, q3, q4⟩ := ro u hu
    exact ⟨q, q1, (m2.ga rfl u).trans q2, ((f2 192 rfl).2.2.1 u).trans q3, by rw [(f2 189 rfl).2.2.1]; exact q4⟩
  have mr : MtR 2 U S 0 (c2B s2) M1 s2 := by
    refine ⟨⟨⟨i2.2.2.1.1.1, i2.2.2.1.1.2.1, hU, hS⟩, fun e u he hu => i2.rw_ he (by omega), fun u hu => (i2.2.2.1.2 u hu).2.2.1, fun u hu => by rw [m3 u (by omega), nn u hu], fun u hu => Or.inl (m3 u (by omega)), fun _ => ro2⟩, ⟨?_, i2.2.2.2.2.2.2.1, by decide⟩, fun u u' hu hu' hne h0 hee => ?_, fun u x hu hx y => ?_, fun u hu y => ?_, ?_⟩
    · rw [(n2 205 rfl).1, hs1, tI_tsI, ifT rfl]; rfl
    · have h0 : 0 ≤ tA s2 191 u := h0
      rw [nn u hu] at h0; exact absurd h0 (by decide)
    · rw [nn u hu] at y; exact absurd y.symm (nI_m1 (by omega))
    · rw [nn u hu] at y; exact absurd y (by decide)
    · rw [gvc_cn]
      have : ∀ n, n ≤ U → cnB (fun u => decide (0 ≤ tA s2 191 u)) n = 0 := fun n => by
        induction n with
        | zero => intro _; rfl
        | succ n ih =>
          intro hn
          rw [cnB_step, ih (by omega), nn n (by omega), ifF (by decide)]
      rw [this U (Nat.le_refl _)]; rfl
  have eK : K_X0_makeBlocks M = obS (KL_X0_makeBlocks_6 FU 0 M1) (fun r73 M26 => some (r73, M26)) fun q25 M26 => ob (KL_X0_makeBlocks_73 FU 0 (msI (msI (mwA (msI M26 75 1 0) 141 0 0) 83 1 0) 84 1 0)) fun q39 M40 => obS (KL_X0_makeBlocks_102 FU 0 M40) (fun r70 M57 => some (r70, M57)) fun q56 M57 => ob (KL_X0_makeBlocks_141 FU 0 M57) fun q65 M66 => some (.inl (), M66) := by
    unfold K_X0_makeBlocks
    rw [m1, ob_some]
    rfl
  have eT : F_makeBlocks s = ob (L_makeBlocks_30 FU 0 s2) fun q34 s35 => J_makeBlocks_82 s35 := by
    unfold F_makeBlocks
    rw [← hs1, nm_eq, show L_makeBlocks_7 FU 0 s1 = some ((), s2) from n1, ob_some]
  rw [eK, eT]
  rcases z_ms2 (D := D) s2 S 0 FU FU M1 s2 (by omega) (by omega) (by omega) i2 (fun e => rfl) mr with ⟨w, M', s3, a1, a2, M2, k, a3, a4, a5, a6, a7, a8⟩ | ⟨M2, s3, a1, a2, a3, a4, a5⟩
  · left
    have bad : tI s3 0 ≠ 0 := by rw [a7]; decide
    refine ⟨w, M', s3, M2, 54, nI k, by rw [show KL_X0_makeBlocks_6 FU 0 M1 = _ from a1, obS_inr], ?_, (m2.mono (by decide) rfl (by decide) rfl).tr (a3.mono (by decide) rfl (by decide) rfl), a4, a5, by decide, (f2.mono (by decide)).tr (a6.mono (by decide)), a7, a8⟩
    rw [show L_makeBlocks_30 FU 0 s2 = _ from a2, ob_some]
    unfold J_makeBlocks_82
    rw [t_isBad1 bad, ob_some, ifF (by decide)]
  · have i3 : IdxR V E U S K N D M2 s3 := i2.kf a3 a4
    obtain ⟨⟨-, -, -, g122, grg, gro⟩, -, gI, gP, gC, gG⟩ := a5
    have ro3 := gro rfl
    -- the beginning of the walks
    obtain ⟨M3, hM3⟩ : ∃ q, q = msI (msI (mwA (msI M2 75 1 0) 141 0 0) 83 1 0) 84 1 0 := ⟨_, rfl⟩
    have k3 : KF D wkI [] [141] [] M2 M3 := by
      rw [hM3]
      exact (((KF.rf.wI rfl TZ.one).wA rfl ⟨by decide, by decide⟩).wI rfl TZ.one).wI rfl TZ.one
    have o3 : ∀ f o, o ≠ 1 → mI M3 f o = mI M2 f o := fun f o ho => by
      rw [hM3, mI_msI, ifF (fun q => ho q.2), mI_msI, ifF (fun q => ho q.2)]
      show mI (msI M2 75 1 0) f o = _
      rw [mI_msI, ifF (fun q => ho q.2)]
    have v3 : mI M3 75 1 = 0 ∧ mI M3 83 1 = 0 ∧ mI M3 84 1 = 0 ∧ mA M3 141 0 = 0 := by
      rw [hM3]
      refine ⟨?_, ?_, ?_, ?_⟩
      · rw [mI_msI, ifF (by omega), mI_msI, ifF (by omega)]; show mI (msI M2 75 1 0) 75 1 = 0; rw [mI_msI, ifT ⟨rfl, rfl⟩]
      · rw [mI_msI, ifF (by omega), mI_msI, ifT ⟨rfl, rfl⟩]
      · rw [mI_msI, ifT ⟨rfl, rfl⟩]
      · show mA (mwA _ 141 0 0) 141 0 = 0
        rw [mA_mwA, ifT ⟨rfl, rfl⟩]
    obtain ⟨M4, b1, b2, b3⟩ := k_73 (D := D) 180 0 FU M3 (by omega) (by omega)
    have k4 : KF D wkI [] [131, 141, 145] [] M2 M4 := (k3.mono rfl rfl (by decide) rfl).tr (b2.mono (by decide) rfl (by decide) rfl)
    have o4 : ∀ f o, o ≠ 1 → mI M4 f o = mI M2 f o := fun f o ho => (b2.i rfl o).trans (o3 f o ho)
    obtain ⟨s4, hs4⟩ : ∃ q, q = tsI (tsI (tsI (tsI s3 208 0) 214 0) 219 0) 220 0 := ⟨_, rfl⟩
    have f4 : Ft [208, 214, 219, 220] s3 s4 := by rw [hs4]; exact ((((Ft.rf _ _).p_tsI rfl).p_tsI rfl).p_tsI rfl).p_tsI rfl
    have v4 : tI s4 208 = 0 ∧ tI s4 214 = 0 ∧ tI s4 219 = 0 ∧ tI s4 220 = 0 := by
      rw [hs4]
      simp only [tI_tsI]
      refine ⟨?_, ?_, ?_, ?_⟩ <;> simp +decide
    obtain ⟨s5, c1, c2, c3⟩ := t_112 hS S 0 FU s4 (by omega) (by omega) ((f4 143 rfl).1.trans i3.2.1.2.1)
    have f5 : Ft [196, 208, 214, 215, 218, 219, 220] s3 s5 := (f4.mono (by decide)).tr (c2.mono (by decide))
    have i5 : IdxR V E U S K N D M4 s5 := i3.kg k4 f5 (fun f o ho => o4 f o (by omega)) (by decide) (by decide) (by decide)
    have A := i5.1.1
    have cN : mn M4 ≤ rmN D M4 := Nat.le_add_right _ _
    have cS : ms M4 ≤ rmS D M4 := Nat.le_add_right _ _
    have rm := A.2.2.2.2
    have hn := A.2.2.1
    have h7 : N ≤ 70000 := by have := A.2.2.2.1.2.2; have := i5.2.2.2.1; omega
    have ro5 : RolR M4 s5 U := fun u hu => by
      obtain ⟨q, q1, q2, q3, q4⟩ := ro3 u hu
      exact ⟨q, q1, (k4.ga rfl u).trans q2, ((f5 192 rfl).2.2.1 u).trans q3, by rw [(f5 189 rfl).2.2.1]; exact q4⟩
    -- all wanted are given
    have w191 : ∀ u, tA s5 191 u = tA s3 191 u := fun u => (f5 191 rfl).2.2.1 u
    have w192 : ∀ u, tA s5 192 u = tA s3 192 u := fun u => (f5 192 rfl).2.2.1 u
    have w180 : ∀ u, tA s5 180 u = tA s2 180 u := fun u => ((f5 180 rfl).2.2.1 u).trans ((a4 180 rfl).2.2.1 u)
    have e122 : ∀ u, u < U → mA M4 122 u = tA s5 191 u := fun u hu => by rw [k4.ga rfl, w191]; exact g122 u hu
    have rl : ∀ u, u < U → (mA M4 123 u = 2 ↔ tA s5 192 u = 2) ∧ (2 ≤ mA M4 123 u ↔ tA s5 192 u = 2) := fun u hu => by
      obtain ⟨q, q1, q2, q3, -⟩ := ro5 u hu
      rw [q2, q3]
      refine ⟨Iff.rfl, ?_⟩
      rw [show (2 : Int32) = nI 2 from rfl, bI_le (by decide) (by omega), bI_eq (by omega) (by decide)]
      omega
    have giv : ∀ u, u < U → (tA s5 192 u = 2 → tA s5 191 u = -1) ∧ (¬ tA s5 192 u = 2 → ∃ x, x < S ∧ tA s5 191 u = nI x ∧ c2B s5 x = true) := fun u hu => by
      have pq : ∀ u, u < U → decide (0 ≤ tA s3 191 u) = true → decide (¬ tA s3 192 u = 2) = true := fun u hu z => by
        refine decide_eq_true (fun y => ?_)
        have h := gC u hu (of_decide_eq_true z)
        unfold ctM at h
        rw [ifF (by decide), ifF (by decide), ← k4.ga (a := 123) rfl] at h
        exact of_decide_eq_true h (((rl u hu).2).mpr ((w192 u).trans y))
      have cnt : cnB (fun u => decide (¬ tA s3 192 u = 2)) U ≤ cnB (fun u => decide (0 ≤ tA s3 191 u)) U := by
        rw [← gvc_cn (fun u => tA s3 191 u) U, gG, show cnB (fun u => decide (¬ tA s3 192 u = 2)) U = cnB (fun u => decide (¬ tA s 192 u = 2)) U from cnB_eq (fun u _ => by rw [(a4 192 rfl).2.2.1, (f2 192 rfl).2.2.1]), cn]
        exact Nat.le_of_eq (cnB_eq (fun e _ => by unfold c2B; rw [(f2 180 rfl).2.2.1]))
      have all := cnB_all pq cnt
      rw [w191, w192]
      have rg : mA M2 122 u = -1 ∨ ∃ e, e < S ∧ mA M2 122 u = nI e := grg u hu
      rw [g122 u hu] at rg
      refine ⟨fun z => ?_, fun z => ?_⟩
      · refine rg.resolve_right (fun ⟨e, e1, e2⟩ => ?_)
        exact of_decide_eq_true (pq u hu (decide_eq_true (by rw [e2]; exact nn_nI (by omega)))) z
      · have nn0 := of_decide_eq_true (all u hu (decide_eq_true z))
        rcases rg with y | ⟨x, x1, x2⟩
        · rw [y] at nn0; exact absurd nn0 (by decide)
        · refine ⟨x, x1, x2, ?_⟩
          have := (gP u x hu x1 x2).2
          unfold c2B at this ⊢
          rw [w180]; exact this
    obtain ⟨ct, hct⟩ : ∃ ct : Nat → Bool, ct = fun u => decide (¬ tA s5 192 u = 2) := ⟨_, rfl⟩
    obtain ⟨gv, hgv⟩ : ∃ gv : Nat → Nat, gv = fun u => ix (tA s5 191 u) := ⟨_, rfl⟩
    obtain ⟨ins, hin⟩ : ∃ ins : Nat → Nat → Bool, ins = fun e u => decide (¬ tA s5 202 (200 * e + u) = 0 ∧ ¬ tA s5 192 u = 2) := ⟨_, rfl⟩
    obtain ⟨c, hc⟩ : ∃ c : Nat → Bool, c = c2B s5 := ⟨_, rfl⟩
    have ctI : ∀ u, ct u = true ↔ ¬ tA s5 192 u = 2 := fun u => by
      rw [hct]; exact ⟨fun z => of_decide_eq_true z, fun z => decide_eq_true z⟩
    have insI : ∀ e u, ins e u = true ↔ ¬ tA s5 202 (200 * e + u) = 0 ∧ ¬ tA s5 192 u = 2 := fun e u => by
      rw [hin]; exact ⟨fun z => of_decide_eq_true z, fun z => decide_eq_true z⟩
    have gvI : ∀ u, u < U → ct u = true → (gv u < S ∧ c (gv u) = true) ∧ tA s5 191 u = nI (gv u) := fun u hu z => by
      obtain ⟨x, x1, x2, x3⟩ := (giv u hu).2 ((ctI u).mp z)
      have : gv u = x := by rw [hgv]; show ix (tA s5 191 u) = x; rw [x2, ix_nI (by omega)]
      rw [this]
      exact ⟨⟨x1, by rw [hc]; exact x3⟩, x2⟩
    have c180 : ∀ f, c f = true ↔ tA s5 180 f = 0 := fun f => by
      rw [hc]; exact ⟨fun z => of_decide_eq_true z, fun z => decide_eq_true z⟩
    have hgg : ∀ e u, e < S → u < U → ins e u = true → gv u < S ∧ c (gv u) = true := fun e u he hu z => (gvI u hu ((ctI u).mpr ((insI e u).mp z).2)).1
    have Kc : KwC U S ins gv c M4 := by
      refine ⟨⟨i5.2.2.1.1.1, hU, hS⟩, fun e u he hu => ?_, hgg, fun e u he hu z => ?_, by omega, by omega, by omega⟩
      · rw [insI, i5.rw_ he (by omega), (rl u hu).1]
      · rw [e122 u hu]; exact (gvI u hu ((ctI u).mpr ((insI e u).mp z).2)).2
    have inj : ∀ u u', u < U → u' < U → ct u = true → ct u' = true → gv u = gv u' → u = u' := fun u u' hu hu' z z' e => by
      by_cases y : u = u'
      · exact y
      · exfalso
        have q1 := (gvI u hu z).2
        have q2 := (gvI u' hu' z').2
        rw [w191] at q1 q2
        refine gI u u' hu hu' y ?_ ?_
        · show (0 : Int32) ≤ tA s3 191 u
          rw [q1]; exact nn_nI (by have := (gvI u hu z).1.1; omega)
        · show tA s3 191 u = tA s3 191 u'
          rw [q1, q2, e]
    have cnt5 : cnB ct U = cnB c S := by
      rw [show cnB ct U = cnB (fun u => decide (¬ tA s 192 u = 2)) U from cnB_eq (fun u _ => by rw [hct]; show decide (¬ tA s5 192 u = 2) = _; rw [w192, (a4 192 rfl).2.2.1, (f2 192 rfl).2.2.1]), cn]
      exact cnB_eq (fun e _ => by rw [hc]; unfold c2B; rw [w180, (f2 180 rfl).2.2.1])
    have eq5 : ∀ e, e < S → c e = true → EqI D M4 s5 V K N e := fun e he z => (i5.2.2.2.2.1 e he).2.1 ((c180 e).mp z)
    have T : TwC U S ins gv ct c (liK M4) s5 := by
      refine ⟨⟨i5.2.2.1.1.2.1, i5.2.1.2.1, hU, hS⟩, fun e u _ _ => insI e u, fun u _ => ctI u, gvI, inj, cnt5, fun f _ z => (c180 f).mp z, fun e u s' he hu z ff => ?_, fun e u => liK_b M4 e u⟩
      have q := (eq5 e he z).mv SnK.rf (NdX.ft ff rfl) (Nat.le_refl _) (Nat.le_refl _) h7 rfl rfl ((ff 141 rfl).2.2.1 e) ((ff 142 rfl).2.2.1 e) (fun _ _ => rfl) (fun u _ => (ff 202 rfl).2.2.1 _)
      obtain ⟨r1, r2, -, -, -, -, q3, q4⟩ := z_lin A h7 (show e < 400 by omega) q (show u < 180 by omega)
      rw [q3, q4]
    have b3' := fun i hi => (b3 i).1 ⟨Nat.zero_le i, hi⟩
    have c3' := fun i hi => (c3 i).1 ⟨Nat.zero_le i, hi⟩
    have KT0 : KtR S P0T M4 := by
      refine ⟨fun f hf => ⟨(b3' f (by omega)).1, fun z => absurd rfl z, (b3' f (by omega)).2⟩, ⟨(b2.i rfl 1).trans v3.2.1, fun i hi => absurd hi (Nat.not_lt_zero i)⟩, (b2.i rfl 1).trans v3.2.2.1, (b2.i rfl 1).trans v3.1, fun b hb => ?_⟩
      have : b = 0 := Nat.le_zero.mp hb
      subst this
      exact (b2.ga rfl 0).trans v3.2.2.2
    have TA0 : TtA S P0T s5 := ⟨fun f hf => ⟨(c3' f hf).1, fun z => absurd rfl z, (c3' f hf).2.2, by rw [(c3' f hf).2.1, ifF (fun z => z.1 rfl)]⟩, ⟨(c2 220 rfl).1.trans v4.2.2.2, fun i hi => absurd hi (Nat.not_lt_zero i)⟩, (c2 219 rfl).1.trans v4.2.2.1, (c2 208 rfl).1.trans v4.1, (c2 214 rfl).1.trans v4.2.1, fun _ => i5.2.2.2.2.2.2.1, fun b z => by cases z⟩
    have TL0 : TtL S U gv ct (liK M4) P0T s5 := fun b hb => absurd hb (Nat.not_lt_zero b)
    have K24 : KF D wkI [] mbA [] M M4 := ((m2.mono (by decide) rfl (by decide) rfl).tr (a3.mono (by decide) rfl (by decide) rfl)).tr (k4.mono (by decide) rfl (by decide) rfl)
    have F05 : Ft mbS s s5 := ((f2.mono (by decide)).tr (a4.mono (by decide))).tr (f5.mono (by decide))
    have eK2 : ∀ {q}, KL_X0_makeBlocks_102 FU 0 M4 = q → (obS (KL_X0_makeBlocks_6 FU 0 M1) (fun r73 M26 => some (r73, M26)) fun q25 M26 => ob (KL_X0_makeBlocks_73 FU 0 (msI (msI (mwA (msI M26 75 1 0) 141 0 0) 83 1 0) 84 1 0)) fun q39 M40 => obS (KL_X0_makeBlocks_102 FU 0 M40) (fun r70 M57 => some (r70, M57)) fun q56 M57 => ob (KL_X0_makeBlocks_141 FU 0 M57) fun q65 M66 => some ((.inl () : Unit ⊕ Nat), M66)) = obS q (fun r70 M57 => some (r70, M57)) fun q56 M57 => ob (KL_X0_makeBlocks_141 FU 0 M57) fun q65 M66 => some (.inl (), M66) := fun hq => by
      rw [show KL_X0_makeBlocks_6 FU 0 M1 = _ from a1, obS_inl, ← hM3, show KL_X0_makeBlocks_73 FU 0 M3 = some ((), M4) from b1, ob_some, hq]
    have eT2 : ∀ {q}, L_makeBlocks_149 FU 0 s5 = some ((), q) → (ob (L_makeBlocks_30 FU 0 s2) fun q34 s35 => J_makeBlocks_82 s35) = some ((), q) := fun hq => by
      rw [show L_makeBlocks_30 FU 0 s2 = _ from a2, ob_some]
      unfold J_makeBlocks_82
      rw [t_isBad0 i3.2.2.2.2.2.2.1, ob_some, ifT rfl]
      simp only [nm_eq]
      rw [← hs4, show L_makeBlocks_112 FU 0 s4 = some ((), s5) from c1, ob_some, hq, ob_some]
    rcases z_tops (D := D) Kc T i5.2.1.1 (fun e he => ⟨by rw [(i5.2.2.2.2.1 e he).1.1, c180], (c180 e).symm⟩) S 0 FU FU P0T M4 s5 (by omega) (by omega) (by omega) (P0T_i S c) rfl rfl (fun f hf => by omega) KT0 KwF.rf TA0 TL0 (Ft.rf _ _) with ⟨b, N1, s6, d1, d2, d3, d4, d5, d6⟩ | ⟨Q, M5, s6, d1, d2, q1, q2, q3, q4, q5, q6, q7, q8, q9⟩
    · left
      exact ⟨mn N1, wM N1 55 (nI b), s6, N1, 55, nI b, by rw [eK2 d1, obS_inr], eT2 d3, K24.tr (d2.1.mono (by decide) rfl (by decide) rfl), rfl, rfl, by decide, F05.tr (d4.mono (by decide)), d5, d6⟩
    · right
      have bd := q1.bd
      have Fi : FiC S U gv ct c (liK M4) Q D M5 := by
        refine ⟨⟨(q6.1.i rfl 1).trans i5.2.2.1.1.1, (q6.1.i rfl 1).trans i5.2.1.1, hU, hS⟩, ⟨q1, q5.2.2.2.1, fun f hf => (q5.1 f hf).2.2, q5.2.2.2.2⟩, fun u hu => ?_, fun u hu z => ⟨(gvI u hu z).1.1, ?_⟩, fun b => q1.bij T b, fun e u M' he hu z k' => ?_⟩
        · rw [q6.1.ga rfl, ctI, (rl u hu).2]
        · rw [q6.1.ga rfl, e122 u hu]; exact (gvI u hu z).2
        · have kk : KF D wkI [] mbA [] M4 M' := (q6.1.mono rfl rfl (by decide) rfl).tr (k'.mono (by decide) rfl (by decide) rfl)
          have oo : ∀ f o, o ≠ 1 → mI M' f o = mI M4 f o := fun f o ho => (k'.i rfl o).trans (q6.2 f o ho)
          have A' : ArS 133 134 40000 D M' K := A.kf kk rfl rfl rfl
          have sn' : SnK D M4 D M' 134 K := sn_of A oo (fun f o => kk.r rfl o)
          have q' : EqI D M' s5 V K N e := (eq5 e he z).mv sn' NdX.rf (Nat.le_refl _) (Nat.le_refl _) h7 (kk.gx rfl e) (kk.gx rfl e) rfl rfl (fun u _ => kk.ga rfl _) (fun _ _ => rfl)
          obtain ⟨r1, r2, x1, x2, x3, x4, x5, -⟩ := z_lin A' h7 (show e < 400 by omega) q' (show u < 180 by omega)
          obtain ⟨t1, t2, -, -, -, -, y5, y6⟩ := z_lin A h7 (show e < 400 by omega) (eq5 e he z) (show u < 180 by omega)
          refine ⟨r1, r2, x1, x2, x3, x4, ?_⟩
          rw [y6]
          have := y5.symm.trans x5
          exact (Prod.mk.inj (Option.some.inj this)).1
      obtain ⟨M6, g1, g2, g3⟩ := k_fills Fi (bkT Q) 0 FU M5 (by omega) (by omega) KF.rf (fun b hb => absurd hb (Nat.not_lt_zero b))
      have kM6 : KF D wkI [] mbA [] M M6 := (K24.tr (q6.1.mono rfl rfl (by decide) rfl)).tr (g2.mono (by decide) rfl (by decide) rfl)
      have oM6 : ∀ f o, o ≠ 1 → mI M6 f o = mI M f o := fun f o ho => by
        rw [g2.i rfl, q6.2 f o ho, o4 f o ho, a3.i rfl, m2.i rfl]
      refine ⟨M6, s6, ?_, eT2 d2, kM6, F05.tr (q9.mono (by decide)), q7.2.2.2.2.2.1 q3, oM6, bkT Q, bfT Q, ⟨(g2.i rfl 1).trans q5.2.2.2.1, q7.2.2.2.1, bd.2.1, q1.2.2.2.1.1⟩, fun b hb => ?_, fun e he => ?_, fun u hu => ?_⟩
      · rw [eK2 d1, obS_inl, show KL_X0_makeBlocks_141 FU 0 M5 = some ((), M6) from g1, ob_some]
      · obtain ⟨e1, e2⟩ := q1.2.2.2.1.2 b hb
        have n12 := q1.2.2.2.2.2 q3 b hb
        obtain ⟨⟨l1, l2⟩, l3, l4, l5⟩ := q8 b hb
        obtain ⟨k1, k2, k3'⟩ := g3 b hb
        have bij := q1.bij T b
        have z192 : ∀ u, tA s6 192 u = tA s5 192 u := fun u => (q9 192 rfl).2.2.1 u
        have all : ∀ j, bfT Q b ≤ j → j < bfT Q (b + 1) → ∃ e u, (e < S ∧ tA s6 180 e = 0 ∧ mA M6 142 j = nI e ∧ tA s6 211 j = nI e) ∧ u < U ∧ ¬ tA s6 192 u = 2 ∧ mA M6 143 j = nI u ∧ tA s6 212 j = nI u := fun j h1 h2 => by
          obtain ⟨f, x1, x2, x3⟩ := cnB_ex (p := fun f => decide (blT Q f = b + 1)) (n := S) (i := j - bfT Q b) (by omega)
          obtain ⟨u, y1, y2, y3⟩ := cnB_ex (p := fun u => ct u && decide (blT Q (gv u) = b + 1)) (n := U) (i := j - bfT Q b) (by omega)
          have x2 := of_decide_eq_true x2
          have y2 : (ct u && decide (blT Q (gv u) = b + 1)) = true := y2
          rw [Bool.and_eq_true] at y2
          have y22 := of_decide_eq_true y2.2
          have w1 := k1 f x1 x2
          have w2 := l3 f x1 x2
          have w3 := k2 u y1 y2.1 y22
          have w4 := l4 u y1 y2.1 y22
          rw [x3, show bfT Q b + (j - bfT Q b) = j by omega] at w1 w2
          rw [y3, show bfT Q b + (j - bfT Q b) = j by omega] at w3 w4
          refine ⟨f, u, ⟨x1, ?_, w1, w2⟩, y1, ?_, w3, w4⟩
          · rw [(q9 180 rfl).2.2.1]
            exact (c180 f).mp (q1.1 f (q1.2.2.1 f (by omega)).1).1.2
          · rw [z192]; exact (ctI u).mp y2.1
        obtain ⟨e0, u0, ⟨-, -, w1, w2⟩, -, -, w3, w4⟩ := all (bfT Q b) (Nat.le_refl _) (by omega)
        refine ⟨⟨by omega, bd.1 (b + 1) (by omega), by omega⟩, ⟨(g2.ga rfl b).trans (q5.2.2.2.2 b (by omega)), (g2.ga rfl (b + 1)).trans (q5.2.2.2.2 (b + 1) (by omega)), l1, l2⟩, ⟨?_, ?_⟩, all⟩
        · rw [k3', l5, w1, w2, w3, w4]
        · rw [l5]
          by_cases z : bfT Q (b + 1) - bfT Q b = 1
          · rw [ifT z]
            exact (liK_b M4 _ _).imp id (fun q => ⟨q, by omega⟩)
          · rw [ifF z]; exact Or.inl rfl
      · rw [g2.ga rfl, (q5.1 e he).2.2, (q7.1 e he).2.2.1]
        refine ⟨rfl, ?_⟩
        unfold blI
        by_cases z : blT Q e = 0
        · rw [ifT z]; exact Or.inl rfl
        · rw [ifF z]
          have := (q1.2.2.1 e z).2
          exact Or.inr ⟨blT Q e - 1, by omega, rfl⟩
      · rw [g2.ga rfl, q6.1.ga rfl, e122 u hu, (q9 191 rfl).2.2.1, (q9 192 rfl).2.2.1]
        obtain ⟨y1, y2⟩ := giv u hu
        exact ⟨rfl, y1, fun z => by
          obtain ⟨x, x1, x2, -⟩ := y2 z
          exact ⟨x, x1, x2⟩⟩
end BLOCKS2
