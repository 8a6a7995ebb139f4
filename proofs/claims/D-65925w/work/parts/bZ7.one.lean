/-! Layer B: running: residuals; a linear block, both sides -/
set_option maxRecDepth 100000
abbrev slbI : List Nat := [90]
abbrev slbA : List Nat := [124, 149, 150]
abbrev slbT : List Nat := [0, 1, 166, 170, 171, 222, 225, 226]
section ONE
variable {C : PC} {B : Nat} {P : Nat → Prop} {mss fss : List Nat} {V U S q A Wn K1 K2 N e r w v u b : Nat} {D : FQ} {M M' M1 : CM} {σ σ' s : TS} {I0 A0 T : List Nat} {x x2 y : Int32}
/-- residuals -/
theorem z_residual (w : RnW C B P mss fss V U S q A Wn K1 K2 N D M σ) (d : VaE 1 V U Wn D M σ) (he : e < S) (h : tA σ 180 e = 0) : NvE M σ (K_X0_residual (nI e) M) (F_leftLessRight (nI e) σ) := by
  obtain ⟨E, h171⟩ := w.ev d
  obtain ⟨⟨-, -, U180, S180, -, h7⟩, -⟩ := w.st
  obtain ⟨n1, n2, ⟨a1, a2⟩, b1, b2⟩ := w.eq he h
  have h0 := E.1.1
  have hc := E.2.2.2.2.1
  unfold K_X0_residual F_leftLessRight
  rw [ifT (inb_nI' (show e < 180 by omega) (by decide)), ifT (inb_nI' (show e < 400 by omega) (by decide)), ix_nI (by omega), a1]
  refine NvO.seq (z_val E h171 (Nat.le_refl _) (SxP.e a2)) (fun y s hs => ⟨0, ?_⟩) (fun v w s e1 f i => ?_)
  · try dsimp only
    rw [ifT (inb_nI' (show e < 400 by omega) (by decide)), t_worthF hs, ob_some, t_isBad1 hs, ob_some, ifF (show ¬ (1 : Int32) = 0 by decide)]
  · subst e1
    try dsimp only
    rw [ifT (inb_nI' (show e < 180 by omega) (by decide)), ifT (inb_nI' (show e < 400 by omega) (by decide)), (f 142 rfl).2.2.1, b1]
    refine NvO.seq (z_val (E.ft f) i (Nat.le_refl _) (SxP.e (b2.ft f h7))) (fun y s hs => ⟨0, ?_⟩) (fun v2 w2 s2 e2 f2 i2 => ?_)
    · try dsimp only
      rw [t_isBad1 hs, ob_some, ifF (show ¬ (1 : Int32) = 0 by decide)]
    · subst e2
      try dsimp only
      have h02 : tI s2 0 = 0 := ((f.tr f2) 0 rfl).1.trans h0
      rw [t_isBad0 h02, ob_some, ifT (rfl : (0 : Int32) = 0), obS_id, ob_id]
      exact (n_in hc.1 hc.2 h02).nv i2
/-- values when a step of solving is made -/
theorem VaE.mv (d : VaE x2 V U Wn D M σ) (g : RsK slbI slbA slbT V D M σ M' σ') (h0 : tI σ' 0 = 0) (hu : ∀ u, u < U → mA M' 124 u = tA σ' 166 u) (h1 : tI σ' 171 = nI 0) (h9 : mI M' 90 1 = tI σ' 222) : VaE x2 V U Wn D M' σ' := by
  obtain ⟨⟨d0, d1, d1'⟩, d2, d3, d4, -, d6⟩ := d
  obtain ⟨k, f, -⟩ := g
  refine ⟨⟨h0, by rw [k.i rfl, (f 165 rfl).1]; exact d1, by rw [k.i rfl]; exact d1'⟩, fun u hu' => ⟨hu u hu', by rw [k.ga rfl, (f 167 rfl).2.2.1]; exact (d2 u hu').2⟩, fun v hv => ?_, fun r hr => ?_, ⟨h1, h9⟩, fun w hw => ?_⟩
  · rw [k.i rfl, k.i rfl, (f 94 rfl).2.2.1, (f 168 rfl).2.2.1, (f 169 rfl).2.2.1]; exact d3 v hv
  · rw [k.ga rfl, (f 154 rfl).1, (f 163 rfl).2.2.1]; exact d4 r hr
  · rw [k.i rfl, (f 235 rfl).2.2.1]; exact d6 w hw
theorem RnW.sl (w : RnW C B P mss fss V U S q A Wn K1 K2 N D M σ) (g : RsK slbI slbA slbT V D M σ M' σ') (h0 : tI σ' 0 = 0) : RnW C B P mss fss V U S q A Wn K1 K2 N D M' σ' := w.kf g.1 (by decide) (by decide) g.2.1 (by decide) h0 g.2.2
/-- an unknown is written, both sides -/
theorem RsK.wu (x : Int32) : RsK slbI slbA slbT V D M σ (mwA M 124 u x) (tsA σ 166 u x) := ⟨KF.rf.wA rfl ⟨by decide, by decide⟩, (Ft.rf _ σ).p_tsA rfl, fun _ _ _ => rfl⟩
theorem VaE.wu (d : VaE x2 V U Wn D M σ) (x : Int32) : VaE x2 V U Wn D (mwA M 124 u x) (tsA σ 166 u x) := d.mv (RsK.wu x) d.1.1 (fun j hj => by
  rw [mA_mwA, tA_tsA]
  by_cases z : j = u
  · rw [ifT ⟨rfl, z⟩, ifT ⟨rfl, z⟩]
  · rw [ifF (fun y => z y.2), ifF (fun y => z y.2)]; exact (d.2.1 j hj).1) d.2.2.2.2.1.1 d.2.2.2.2.1.2
/-- evaluation leaves all as it is -/
theorem RsK.ev (f : Ft [170, 171] σ σ') : RsK slbI slbA slbT V D M σ M σ' := ⟨KF.rf, f.mono (by decide), PaK.rf⟩
theorem VaE.ev (d : VaE x2 V U Wn D M σ) (f : Ft [170, 171] σ σ') (h1 : tI σ' 171 = nI 0) : VaE x2 V U Wn D M σ' := d.mv (RsK.ev f) ((f 0 rfl).1.trans d.1.1) (fun u hu => by rw [(f 166 rfl).2.2.1]; exact (d.2.1 u hu).1) h1 (by rw [(f 222 rfl).1]; exact d.2.2.2.2.1.2)
theorem RnW.lt (w : RnW C B P mss fss V U S q A Wn K1 K2 N D M σ) : 167 ≤ mn M ∧ ∀ v, v < V → (pl D 98).getD v 0 < mn M := by
  obtain ⟨⟨-, V98, -⟩, -⟩ := w.st
  exact ⟨w.1.n167, fun v hv => (w.1.2.1.2.1 98 (by decide) v (by omega)).2.1.2⟩
/-- a value at step level -/
theorem NvO.st {α β : Type} {R : α → β → Prop} {k2 : Option ((α ⊕ Nat) × CM)} {t2 : Option (β × TS)} (h : NvO M σ R k2 t2) (w : RnW C B P mss fss V U S q A Wn K1 K2 N D M σ) (d : VaE x2 V U Wn D M σ) : RsO false (fun w => (.inr w : α ⊕ Nat)) slbI slbA slbT 1 V D M σ (fun a b M' σ' => M' = M ∧ Ft [170, 171] σ σ' ∧ tI σ' 171 = nI 0 ∧ ∃ v, a = .inl v ∧ R v b) k2 t2 := h.fo (by decide) d.2.2.2.2.1.2 w.lt.1 w.lt.2
theorem t_63F {x3 x4 y0 : Int32} (h : tI s 0 ≠ 0) : J_solveLinear_63 x3 x4 y0 s = some ((), s) := by
  unfold J_solveLinear_63 J_solveLinear_87
  rw [t_isBad1 h, ob_some, ifF (show ¬ (1 : Int32) = 0 by decide), t_isBad1 h, ob_some, ifF (show ¬ (1 : Int32) = 0 by decide)]
theorem t_87F {x3 x4 y0 : Int32} (h : tI s 0 ≠ 0) : J_solveLinear_87 x3 x4 y0 s = some ((), s) := by
  unfold J_solveLinear_87
  rw [t_isBad1 h, ob_some, ifF (show ¬ (1 : Int32) = 0 by decide)]
/-- a fault that is found here -/
theorem FoR.wr {T : List Nat} (w : RnW C B P mss fss V U S q A Wn K1 K2 N D M σ) (d : VaE x2 V U Wn D M σ) (r p : Int32) (hr : r ≠ 0) (hT : T.contains 0 = true ∧ T.contains 1 = true) : FoR false I0 A0 T 1 V D M σ (wM M r p) (badT σ r) (mn M) := by
  obtain ⟨n167, n98⟩ := w.lt
  refine ⟨1, r, ⟨Nat.le_refl _, M, r, p, KF.rf, KF.rf⟩, ⟨Nat.lt_succ_self _, wM_k M r p, (wM_v M r p).1⟩, hr, ⟨rfl, fun z => by cases z⟩, badT_f.mono (by simp only [List.all_cons, List.all_nil, hT.1, hT.2]; rfl), ⟨d.2.2.2.2.1.1, ?_⟩, fun v hv z => ?_⟩
  · exact (((wM_f M r p).so (show 1 < mn M by omega) (fun q => q)).i 90).trans d.2.2.2.2.1.2
  · exact ((wM_f M r p).so (n98 v hv) (fun q => q)).i 3213
theorem z_solveOne (w : RnW C B P mss fss V U S q A Wn K1 K2 N D M σ) (d : VaE 1 V U Wn D M σ) (hb : b < 180) {i : Nat} (hi : i < 180) (m1 : mA M 141 b = nI i) (t1 : tA σ 209 b = nI i) (he : e < S) (h180 : tA σ 180 e = 0) (m2 : mA M 142 i = nI e) (t2 : tA σ 211 i = nI e) (hu : u < U) (m3 : mA M 143 i = nI u) (t3 : tA σ 212 i = nI u) :
    RsO false (fun w => (.inr w : Unit ⊕ Nat)) slbI slbA slbT 1 V D M σ (fun a _ M' σ' => a = .inl () ∧ tI σ' 0 = 0 ∧ VaE 1 V U Wn D M' σ') (K_X0_solveOne (nI b) M) (F_solveLinear (nI b) σ) := by
  obtain ⟨⟨-, -, U180, S180, -, -⟩, -⟩ := w.st
  have ib1 : inb (nI b) 181 := inb_nI' (by omega) (by decide)
  have ib4 : inb (nI b) 400 := inb_nI' (by omega) (by decide)
  have ii1 : inb (nI i) 180 := inb_nI' hi (by decide)
  have ii4 : inb (nI i) 400 := inb_nI' (by omega) (by decide)
  have iu1 : inb (nI u) 180 := inb_nI' (by omega) (by decide)
  have iu2 : inb (nI u) 200 := inb_nI' (by omega) (by decide)
  have xb : ix (nI b) = b := ix_nI (by omega)
  have xi : ix (nI i) = i := ix_nI (by omega)
  have xu : ix (nI u) = u := ix_nI (by omega)
  unfold K_X0_solveOne F_solveLinear
  simp only [if_pos ib1, if_pos ib4, xb, m1, t1, if_pos ii1, if_pos ii4, xi, m2, t2, m3, t3, nm_eq, if_pos iu1, if_pos iu2, xu]
  have n94 : slbT.contains 94 = false := rfl
  refine RsO.pre (RsK.wu (u := u) 0) n94 ?_
  have d1 := d.wu (u := u) 0
  have w1 := w.sl (RsK.wu (u := u) 0) d1.1.1
  obtain ⟨M8, hM8⟩ : ∃ X, X = mwA M 124 u 0 := ⟨_, rfl⟩
  obtain ⟨s8, hs8⟩ : ∃ X, X = tsA σ 166 u 0 := ⟨_, rfl⟩
  have g180 : tA s8 180 e = 0 := by rw [hs8, tA_tsA, ifF (fun z => by omega)]; exact h180
  rw [← hM8, ← hs8] at d1 w1 ⊢
  have res1 := z_residual w1 d1 he g180
  refine RsO.seq n94 (res1.st w1 d1) (fun wx M' σ' y k1 k2 fo => ?_) (fun a b M' σ' k1 k2 g ⟨q1, q2, q3, v, q4, q5⟩ => ?_)
  · -- the first residual fails
    refine ⟨by rw [k1, obS_inr], (), tsA σ' 166 u 65536, ?_, (Ft.rf _ σ').p_tsA rfl, rfl, rfl, rfl, rfl⟩
    have ne : tI (tsA σ' 166 u 65536) 0 ≠ 0 := fo.ne
    rw [k2, ob_some, t_isBad1 ne, ob_some, ifF (show ¬ (1 : Int32) = 0 by decide), t_63F ne]
  subst q1; subst q4; subst q5
  rw [k1, k2, obS_inl, ob_some]
  have d2 := d1.ev q2 q3
  have w2 := w1.sl (RsK.ev q2) d2.1.1
  refine RsO.pre (RsK.wu (u := u) 65536) n94 ?_
  have d3 := d2.wu (u := u) 65536
  have w3 := w2.sl (RsK.wu (u := u) 65536) d3.1.1
  have h180 : tA (tsA σ' 166 u 65536) 180 e = 0 := by rw [tA_tsA, ifF (fun z => by omega), (q2 180 rfl).2.2.1]; exact g180
  obtain ⟨M15, hM15⟩ : ∃ X, X = mwA M' 124 u 65536 := ⟨_, rfl⟩
  obtain ⟨s14, hs14⟩ : ∃ X, X = tsA σ' 166 u 65536 := ⟨_, rfl⟩
  rw [← hM15, ← hs14] at d3 w3 ⊢
  rw [← hs14] at h180
  rw [t_isBad0 d3.1.1, ob_some, ifT (rfl : (0 : Int32) = 0)]
  have res2 := z_residual w3 d3 he h180
  refine RsO.seq n94 (res2.st w3 d3) (fun wx M2 σ2 y k3 k4 fo => ?_) (fun a b2 M2 σ2 k3 k4 g2 ⟨p1, p2, p3, v2, p4, p5⟩ => ?_)
  · refine ⟨by rw [k3, obS_inr], (), σ2, ?_, Ft.rf _ σ2, rfl, rfl, rfl, rfl⟩
    rw [k4, ob_some, t_63F fo.ne]
  subst p1; subst p4; subst p5
  rw [k3, k4, obS_inl, ob_some]
  have d4 := d3.ev p2 p3
  have w4 := w3.sl (RsK.ev p2) d4.1.1
  obtain ⟨-, -, -, -, -, -, -, -, -, hc⟩ := w4.st
  unfold J_solveLinear_63
  rw [t_isBad0 d4.1.1, ob_some, ifT (rfl : (0 : Int32) = 0)]
  have fit := (n_in (x := v2.toInt64 - v.toInt64) hc.1 hc.2 d4.1.1).nv p3
  refine RsO.seq n94 (fit.st w4 d4) (fun wx M3 σ3 y k5 k6 fo => ?_) (fun a b3 M3 σ3 k5 k6 g3 ⟨r1, r2, r3, v3, r4, r5⟩ => ?_)
  · refine ⟨by rw [k5, obS_inr], (), σ3, ?_, Ft.rf _ σ3, rfl, rfl, rfl, rfl⟩
    rw [k6, ob_some, t_87F fo.ne]
  subst r1; subst r4; subst r5
  rw [k5, k6, obS_inl, ob_some]
  have d5 := d4.ev r2 r3
  have w5 := w4.sl (RsK.ev r2) d5.1.1
  unfold J_solveLinear_87
  rw [t_isBad0 d5.1.1, ob_some, ifT (rfl : (0 : Int32) = 0)]
  by_cases z : v3 = 0
  · rw [ifT z, ifT z, k_wrong hc.1 hc.2, ob_some, ifT (wM_k _ _ _), t_badT d5.1.1, ob_some]
    exact Or.inl ⟨_, _, _, (), rfl, rfl, FoR.wr w5 d5 43 (nI b) (by decide) ⟨rfl, rfl⟩⟩
  · rw [ifF z, ifF z]
    have ovr := (n_over (a := -v) (b := v3) hc.1 hc.2 d5.1.1).nv r3
    refine RsO.seq n94 (ovr.st w5 d5) (fun wx M4 σ4 y k7 k8 fo => ?_) (fun a b4 M4 σ4 k7 k8 g4 ⟨o1, o2, o3, v4, o4, o5⟩ => ?_)
    · refine ⟨by rw [k7, obS_inr], (), tsA σ4 166 u y, ?_, (Ft.rf _ σ4).p_tsA rfl, rfl, rfl, rfl, rfl⟩
      rw [k8, ob_some, ifT iu2, xu, nm_eq]
    · subst o1; subst o4; subst o5
      rw [k7, k8, obS_inl, ob_some, ifT iu2, xu, nm_eq]
      have d6 := d5.ev o2 o3
      refine Or.inr ⟨.inl (), (), _, _, rfl, rfl, RsK.wu v4, rfl, (d6.wu (u := u) v4).1.1, d6.wu v4⟩
end ONE
