/-! Layer B: running: one step with its event, both sides -/
set_option maxRecDepth 100000
/-- how steps are made -/
def MsR2 (M : CM) (σ : TS) : Prop := (∃ k, k ≤ 3 ∧ mI M 93 1 = nI k ∧ tI σ 223 = nI k) ∧ ∃ st, (1 ≤ st ∧ st ≤ 6553600) ∧ mI M 94 1 = nI st ∧ tI σ 224 = nI st
/-- started, both sides -/
def RnS (C : PC) (B : Nat) (P : Nat → Prop) (mss fss : List Nat) (V U S q A Wn K1 K2 N : Nat) (D : FQ) (M : CM) (σ : TS) : Prop := RnW C B P mss fss V U S q A Wn K1 K2 N D M σ ∧ VaX V U Wn D M σ ∧ EvN2 0 M σ ∧ mI M 95 1 = tI σ 237 ∧ (∃ t0, t0 < 2147483648 ∧ tI σ 165 = nI t0) ∧ MsR2 M σ
/-- a step that failed; both are back -/
def OsF (V U Wn : Nat) (D : FQ) (M : CM) (σ : TS) (kr : Option ((Unit ⊕ Nat) × CM)) (tr : Option (Int32 × TS)) : Prop := ∃ n wo M1 M2 σ2 y, (kr = some (.inr wo, M1) ∧ tr = some (y, σ2) ∧ K_X0_back M1 = some ((), M2)) ∧ (n ≤ 2 ∧ RB D ruI ruA n M M2) ∧ Ft ruT σ σ2 ∧ VaV V U Wn D M2 σ2 ∧ PaK V D σ M M2 ∧ (wo < mn M2 ∧ mk M2 wo = 7 ∧ mI M2 1200 wo = tI σ2 0 ∧ mI M2 1201 wo = tI σ2 1 ∧ tI σ2 0 ≠ 0) ∧ (tI σ2 171 = nI 0 ∧ mI M2 90 1 = tI σ2 222) ∧ (mI M2 95 1 = tI σ2 237 ∧ tI σ2 238 = tI σ 238 ∧ tI σ2 239 = tI σ 239)
def OsG (C : PC) (B : Nat) (P : Nat → Prop) (mss fss : List Nat) (V U S q A Wn K1 K2 N : Nat) (D : FQ) (M : CM) (σ : TS) (kr : Option ((Unit ⊕ Nat) × CM)) (tr : Option (Int32 × TS)) : Prop := ∃ M' σ' y, kr = some (.inl (), M') ∧ tr = some (y, σ') ∧ (y = 0 ∨ y = 1) ∧ RsK ruI ruA ruT V D M σ M' σ' ∧ RnS C B P mss fss V U S q A Wn K1 K2 N D M' σ' ∧ mI M' 96 1 = mI M 96 1 + y
section ONESTEP
variable {pq : Bool} {C C' : PC} {B : Nat} {P : Nat → Prop} {mss fss : List Nat} {V U S q A Wn K1 K2 N e r w v u b n i j k a m kf tf h wo nb t0 : Nat} {D : FQ} {M M' M1 : CM} {σ σ' s σ1 : TS} {x x1 x2 x3 y z y1 y2 y3 : Int32} {I A0 T : List Nat} {kr : Option ((Unit ⊕ Nat) × CM)} {tr : Option (Int32 × TS)}
theorem OsF.pre (g : RsK ruI ruA ruT V D M σ M1 σ1) (e : tI σ1 238 = tI σ 238 ∧ tI σ1 239 = tI σ 239) (h : OsF V U Wn D M1 σ1 kr tr) : OsF V U Wn D M σ kr tr := by
  obtain ⟨n, wo, M3, M2, σ2, y, h1, ⟨h2, h3⟩, h4, h5, h6, h7, h8, h9, h10, h11⟩ := h
  exact ⟨n, wo, M3, M2, σ2, y, h1, ⟨h2, RB.pre g.1 n _ h3⟩, g.2.1.tr h4, h5, g.2.2.tr h6 (fun v => (g.2.1 94 rfl).2.2.1 v), h7, h8, h9, h10.trans e.1, h11.trans e.2⟩
theorem OsG.pre (g : RsK ruI ruA ruT V D M σ M1 σ1) (e : mI M1 96 1 = mI M 96 1) (h : OsG C B P mss fss V U S q A Wn K1 K2 N D M1 σ1 kr tr) : OsG C B P mss fss V U S q A Wn K1 K2 N D M σ kr tr := by
  obtain ⟨M', σ', y, h1, h2, h3, h4, h5, h6⟩ := h
  exact ⟨M', σ', y, h1, h2, h3, g.tr h4 rfl, h5, by rw [h6, e]⟩
theorem VaV.ft (d : VaV V U Wn D M σ) (f : Ft T σ σ') (hT : [94, 154, 163, 165, 166, 167, 168, 169, 235].all (fun k => !T.contains k) = true) : VaV V U Wn D M σ' := by
  have t : ∀ k, k ∈ [94, 154, 163, 165, 166, 167, 168, 169, 235] → tI σ' k = tI σ k ∧ ∀ j, tA σ' k j = tA σ k j := fun k hk => ⟨(f k (by simpa using List.all_eq_true.mp hT k hk)).1, (f k (by simpa using List.all_eq_true.mp hT k hk)).2.2.1⟩
  obtain ⟨c1, c2, c3, c4, c5⟩ := d
  refine ⟨c1.trans (t 165 (by decide)).1.symm, fun u hu => ?_, fun v hv z => ?_, fun j hj z => ?_, fun w hw => ?_⟩
  · rw [(t 166 (by decide)).2, (t 167 (by decide)).2]; exact c2 u hu
  · rw [(t 94 (by decide)).2] at z
    rw [(t 168 (by decide)).2, (t 169 (by decide)).2]; exact c3 v hv z
  · rw [(t 154 (by decide)).1] at z
    rw [(t 163 (by decide)).2]; exact c4 j hj z
  · rw [(t 235 (by decide)).2]; exact c5 w hw
theorem F_event_238 {u : Unit} (h : F_event x1 σ = some (u, σ')) : tI σ' 238 = tI σ 238 + 1 := by
  unfold F_event at h
  rw [nm_eq] at h
  obtain ⟨a1, s1, e1, h⟩ := ob_e h
  obtain ⟨a2, s2, e2, h⟩ := ob_e h
  obtain ⟨a3, s3, e3, h⟩ := ob_e h
  have f1 := (fS_L_event_12 _ _ _ _ _ _ e1 238 rfl).1
  have f2 := (fS_L_event_40 _ _ _ _ _ _ e2 238 rfl).1
  have f3 := (fS_L_event_68 _ _ _ _ _ _ e3 238 rfl).1
  have f0 : tI (tsI σ 238 (tI σ 238 + 1)) 238 = tI σ 238 + 1 := by rw [tI_tsI, ifT rfl]
  cases e4 : L_event_111 FU x1 1 s3 with
  | none => rw [e4] at h; cases h
  | some p =>
    obtain ⟨o, s4⟩ := p
    have f4 := (fS_L_event_111 _ _ _ _ _ _ e4 238 rfl).1
    rw [e4] at h
    cases o with
    | inr o =>
      rw [obS_inr] at h
      cases h
      rw [f4, f3, f2, f1, f0]
    | inl o =>
      rw [obS_inl] at h
      obtain ⟨a5, s5, e5, h⟩ := ob_e h
      obtain ⟨a6, s6, e6, h⟩ := ob_e h
      obtain ⟨r, -, h⟩ := ob_bad h
      have f5 := (fS_L_event_415 _ _ _ _ _ e5 238 rfl).1
      have f6 := (fS_F_solveBlocks _ _ _ e6 238 rfl).1
      by_cases z : r = 0
      · rw [ifT z] at h
        obtain ⟨a7, s7, e7, h⟩ := ob_e h
        have f7 := (fS_L_event_466 _ _ _ _ _ e7 238 rfl).1
        cases h
        rw [f7, f6, f5, f4, f3, f2, f1, f0]
      · rw [ifF z] at h
        cases h
        rw [f6, f5, f4, f3, f2, f1, f0]
def kEv (M : CM) : Option ((Unit ⊕ Nat) × CM) := obS (K_X0_event 0 M) (fun w29 M25 => some (.inr w29, M25)) fun _ M25 => nm (msI M25 95 1 ((mI M25 95 1) + 1)) fun M30 => some (.inl (), M30)
/-- the event at a step's end -/
theorem z_evt (p : BsS C B P mss fss V U S q A Wn K1 K2 N D t0 M σ) (c : EvN2 0 M σ) (h95 : mI M 95 1 + 1 = tI σ 237) (hst : MsR2 M σ) (ht : ∃ t0, t0 < 2147483648 ∧ tI σ 165 = nI t0) (c1 : cN C + 2 ≤ 601024) (c2 : cS C + 16 ≤ 7293034) : OsF V U Wn D M σ (kEv M) (J_oneStep_196 σ) ∨ OsG C B P mss fss V U S q A Wn K1 K2 N D M σ (kEv M) (J_oneStep_196 σ) := by
  obtain ⟨w, d, ke, -, -⟩ := id p
  unfold kEv J_oneStep_196
  rw [nm_eq, nm_eq]
  have big := z_event 0 w d c
  have big := big.im (Q2 := fun a _ M' σ' => (a = .inl () ∧ RnW C B P mss fss V U S q A Wn K1 K2 N D M' σ' ∧ VaE 1 V U Wn D M' σ' ∧ EvN2 0 M' σ') ∧ RsK evI evA evT V D M σ M' σ') (fun a b M' σ' g z => ⟨z, g⟩)
  rcases big with ⟨M', σ', wx, y, k1, k2, fo⟩ | ⟨a, b, M', σ', k1, k2, -, ⟨g1, w1, d1, c3⟩, g⟩
  · left
    obtain ⟨n, r, ⟨n1, rb⟩, -, -, -, f, -, -⟩ := id fo
    obtain ⟨i3, -⟩ := RbF.of n M' rb
    obtain ⟨n', M2, σ2, ⟨q1, q2, q3⟩, q4, q5, q6, q7, q8, q9, q10, q11, q12, q13⟩ := back_fo w ke fo ⟨by decide, rfl⟩ ⟨by decide, by decide⟩ ⟨by decide, by decide⟩ c1 c2
    obtain ⟨σ3, hσ3⟩ : ∃ X, X = tsI (tsI (tsI σ2 237 ((tI σ2 237) - 1)) 238 (tI σ 238)) 239 (tI σ 239) := ⟨_, rfl⟩
    have f3 : Ft [237, 238, 239] σ2 σ3 := by rw [hσ3]; exact (((Ft.rf _ σ2).p_tsI rfl).p_tsI rfl).p_tsI rfl
    refine ⟨n', wx, M', M2, σ3, 1, ⟨by rw [k1, obS_inr], ?_, q2⟩, ⟨q1, q4⟩, q5.tr (f3.mono (by decide)), q6.ft f3 (by decide), q7, ⟨q8.1, q8.2.1, by rw [(f3 0 rfl).1]; exact q8.2.2.1, by rw [(f3 1 rfl).1]; exact q8.2.2.2.1, by rw [(f3 0 rfl).1]; exact q8.2.2.2.2⟩, ⟨(f3 171 rfl).1.trans q9.1, q9.2.trans (f3 222 rfl).1.symm⟩, ?_, ?_, ?_⟩
    · rw [k2, ob_some, t_isBad1 fo.ne, ob_some, ifF (show ¬ (1 : Int32) = 0 by decide), q3, ob_some, nm_eq, nm_eq, nm_eq, hσ3]
    · have e1 : mI M2 95 1 = mI M 95 1 := q10.trans (i3 95 1 (by have := w.1.n167; omega) (by decide))
      have e2 : tI σ2 237 = tI σ 237 := q11.trans (f 237 rfl).1
      rw [hσ3, tI_tsI, ifF (by decide), tI_tsI, ifF (by decide), tI_tsI, ifT rfl, e1, e2, ← h95, Int32.add_sub_cancel]
    · rw [hσ3, tI_tsI, ifF (by decide), tI_tsI, ifT rfl]
    · rw [hσ3, tI_tsI, ifT rfl]
  · right
    subst g1
    have e95 : mI M' 95 1 = mI M 95 1 := g.1.i rfl 1
    obtain ⟨M3, hM3⟩ : ∃ X, X = msI M' 95 1 (mI M' 95 1 + 1) := ⟨_, rfl⟩
    have k3 : KF D [95] [] [] [] M' M3 := by rw [hM3]; exact KF.rf.wI rfl TZ.one
    have g3 : RsK ruI ruA ruT V D M' σ' M3 σ' := ⟨k3.mono (by decide) (by decide) (by decide) (by decide), Ft.rf _ _, PaK.of k3 rfl⟩
    have gg : RsK ruI ruA ruT V D M σ M' σ' := g.mono (by decide) (by decide) (by decide)
    have w3 := w1.kf g3.1 (by decide) (by decide) g3.2.1 (by decide) d1.1.1 g3.2.2
    have d3 : VaX V U Wn D M3 σ' := d1.vx.up k3 (Ft.rf [] σ') (by decide) (by decide) (by decide)
    refine ⟨M3, σ', 1, by rw [k1, obS_inl, nm_eq, hM3], by rw [k2, ob_some, t_isBad0 d1.1.1, ob_some, ifT (rfl : (0 : Int32) = 0)], Or.inr rfl, gg.tr g3 rfl, ⟨w3, d3, c3.up k3 (Ft.rf [] σ') ⟨rfl, rfl⟩ ⟨rfl, rfl⟩, ?_, ?_, ?_⟩, ?_⟩
    · rw [hM3, mI_msI, ifT ⟨rfl, rfl⟩, e95, h95, (g.2.1 237 rfl).1]
    · obtain ⟨t, t1, t2⟩ := ht
      exact ⟨t, t1, (g.2.1 165 rfl).1.trans t2⟩
    · obtain ⟨⟨k, k0, k1, k2⟩, st, s1, s2, s3⟩ := hst
      exact ⟨⟨k, k0, by rw [k3.i rfl, g.1.i rfl]; exact k1, (g.2.1 223 rfl).1.trans k2⟩, st, s1, by rw [k3.i rfl, g.1.i rfl]; exact s2, (g.2.1 224 rfl).1.trans s3⟩
    · have e0 : mI M 96 1 = tI σ 238 := by have := c.2; rwa [Int32.add_zero] at this
      have e1 : mI M' 96 1 = tI σ' 238 := by have := c3.2; rwa [Int32.add_zero] at this
      rw [k3.i rfl, e1, e0]
      exact F_event_238 k2
theorem t_159B (hs : tI s 0 ≠ 0) : J_oneStep_159 x s = ob (F_back 0 s) fun _ s => some (0, s) := by
  unfold J_oneStep_159
  rw [t_isBad1 hs, ob_some, ifF (show ¬ (1 : Int32) = 0 by decide)]
theorem t_141B (hs : tI s 0 ≠ 0) : J_oneStep_141 x y s = ob (F_back 0 s) fun _ s => some (0, s) := by
  unfold J_oneStep_141
  rw [t_isBad1 hs, ob_some, ifF (show ¬ (1 : Int32) = 0 by decide), t_159B hs]
theorem t_57B (hs : tI s 0 ≠ 0) : J_oneStep_57 x s = ob (F_back 0 s) fun _ s => some (0, s) := by
  unfold J_oneStep_57 J_oneStep_58
  rw [ifT (rfl : (0 : Int32) = 0), t_159B hs]
theorem t_58B (hs : tI s 0 ≠ 0) : J_oneStep_58 x 1 s = ob (F_back 0 s) fun _ s => some (0, s) := by
  obtain ⟨g, hg⟩ := fuEx
  unfold J_oneStep_58
  rw [ifF (show ¬ (1 : Int32) = 0 by decide), hg, t_68B hs, ob_some, t_141B hs]
theorem os_bad (p : BsS C B P mss fss V U S q A Wn K1 K2 N D t0 M σ) (h95 : mI M 95 1 = tI σ 237) (fo : FoR true bsI bsA bsT 2 V D M σ M' σ' wo) (c1 : cN C + 2 ≤ 601024) (c2 : cS C + 16 ≤ 7293034) : OsF V U Wn D M σ (some (.inr wo, M')) (ob (F_back 0 σ') fun _ s => some (0, s)) := by
  obtain ⟨w, d, ke, -, -⟩ := id p
  obtain ⟨n, r, ⟨n1, rb⟩, -, -, -, f, -, -⟩ := id fo
  obtain ⟨i3, -⟩ := RbF.of n M' rb
  obtain ⟨n', M2, σ2, ⟨q1, q2, q3⟩, q4, q5, q6, q7, q8, q9, q10, q11, q12, q13⟩ := back_fo w ke fo ⟨by decide, rfl⟩ ⟨by decide, by decide⟩ ⟨by decide, by decide⟩ c1 c2
  refine ⟨n', wo, M', M2, σ2, 0, ⟨rfl, by rw [q3, ob_some], q2⟩, ⟨q1, q4⟩, q5, q6, q7, q8, q9, ?_, q12.trans (f 238 rfl).1, q13.trans (f 239 rfl).1⟩
  rw [q10, i3 95 1 (by have := w.1.n167; omega) (by decide), q11, (f 237 rfl).1]
  exact h95
/-- a step that would go beyond time -/
theorem os_41 (w : RnW C B P mss fss V U S q A Wn K1 K2 N D M σ) (d : VaX V U Wn D M σ) (h95 : mI M 95 1 = tI σ 237) (hk : K_X0_keep M = some ((), M1)) (c1 : cN C + 2 ≤ 601024) (c2 : cS C + 16 ≤ 7293034) : OsF V U Wn D M σ (some (.inr (mn M1), wM M1 41 0)) (some (0, badT σ 41)) := by
  obtain ⟨⟨V96, V98, U180, -, q24, -⟩, ⟨h15, h107⟩, -, -, ⟨⟨h39, h148⟩, W12, Wl⟩, -⟩ := w.st
  obtain ⟨M1', a1, a2, a3, a4, a5, a6, a7⟩ := k_keep w.1 h15 h39 ⟨V98, V96⟩ ⟨Wl, W12⟩
  have es : M1' = M1 := by
    have := a1.symm.trans hk
    cases this; rfl
  subst es
  obtain ⟨W1, -⟩ := w.1.kf a2 (by decide) (by decide) (by decide) (Ft.rf [] σ) (by decide)
  obtain ⟨W2, -, F2⟩ := W1.wm 41 0 ⟨by omega, by omega⟩
  have n167 := W1.n167
  have so : ∀ o, o < mn M1' → So M1' (wM M1' 41 0) o := fun o ho => F2.so ho (fun q => q)
  obtain ⟨M2, b1, b2, b3, b4, b5, b6, b7⟩ := k_back W2 (((so 1 (by omega)).i 15).trans ((a2.i rfl 1).trans h15)) (((so 1 (by omega)).i 39).trans ((a2.i rfl 1).trans h39)) ⟨V98, V96⟩ ⟨Wl, W12⟩
  obtain ⟨c0, ⟨d1, d2, d3, d4, d5⟩, d6, d7⟩ := d
  have fb : Ft [0, 1] σ (badT σ 41) := badT_f.mono (by decide)
  refine ⟨1, mn M1', wM M1' 41 0, M2, badT σ 41, 0, ⟨rfl, rfl, b1⟩, ⟨by decide, M1', 41, 0, a2.mono (by decide) (by decide) (by decide) (by decide), b2.mono (by decide) (by decide) (by decide) (by decide)⟩, fb.mono (by decide), ⟨?_, fun u hu => ?_, fun v hv z => ?_, fun r hr z => ?_, fun j hj => ?_⟩, fun v hv z => ?_, ⟨by rw [b2.n]; exact Nat.lt_succ_self _, (b2.k _).trans (wM_k M1' 41 0), (b2.i rfl _).trans (wM_v M1' 41 0).1, (b2.i rfl _).trans (wM_v M1' 41 0).2, bad41⟩, ⟨d6, ?_⟩, ?_, rfl, rfl⟩
  · rw [b3, (so 151 (by omega)).i, a3]; exact d1
  · rw [(b4 u (by omega)).1, (b4 u (by omega)).2, (so 152 (by omega)).a, (so 153 (by omega)).a, (a4 u (by omega)).1, (a4 u (by omega)).2]; exact d2 u hu
  · rw [(b5 v hv).1, (b5 v hv).2, (so 154 (by omega)).a, (so 155 (by omega)).a, (a5 v hv).1, (a5 v hv).2]; exact d3 v hv z
  · rw [b6 r hr, (so 156 (by omega)).a, a6 r hr]; exact d4 r hr z
  · obtain ⟨e1, e2⟩ := d5 j hj
    rw [b7 j hj, (so 157 (by omega)).a, a7 j hj, e1, nZ_b e2]; exact ⟨rfl, e2⟩
  · rw [(b5 v hv).1, (so 154 (by omega)).a, (a5 v hv).1]
  · rw [b2.i rfl, (so 1 (by omega)).i, a2.i rfl]; exact d7
  · rw [b2.i rfl, (so 1 (by omega)).i, a2.i rfl]; exact h95
/-- one step -/
theorem z_oneStep (S0 : RnS C B P mss fss V U S q A Wn K1 K2 N D M σ) (c1 : cN C + 2 ≤ 601024) (c2 : cS C + 16 ≤ 7293034) : OsF V U Wn D M σ (K_X0_oneStep M) (F_oneStep σ) ∨ OsG C B P mss fss V U S q A Wn K1 K2 N D M σ (K_X0_oneStep M) (F_oneStep σ) := by
  obtain ⟨w, d, c, h95, ⟨t0, ht0, ht⟩, hst⟩ := S0
  obtain ⟨⟨km, k3, m93, m223⟩, st, ⟨s1, s2⟩, e94, e224⟩ := id hst
  have h0 := d.1
  have fu : 16777217 ≤ FU := by unfold FU; decide
  have n94 : bsT.contains 94 = false := rfl
  obtain ⟨⟨V96, V98, U180, -, q24, -⟩, ⟨h15, h107⟩, ⟨-, h197⟩, ⟨-, h154⟩, ⟨⟨h39, h148⟩, W12, Wl⟩, -⟩ := w.st
  obtain ⟨M1, σ1, a1, a2, g1, ke⟩ := z_keep w d.2.1
  obtain ⟨σ1', b1, -, ⟨b3, -⟩, -⟩ := t_keep (σ := σ) U180 V96 q24 W12 0 (by omega) h197 h107 h154 h148
  have es : σ1' = σ1 := by
    have := b1.symm.trans a2
    cases this; rfl
  subst es
  -- the component has kept, the twin not yet
  have wK := w.kf g1.1 (by decide) (by decide) (Ft.rf [] σ) (by decide) h0 (fun v hv z => g1.2.2 v hv z)
  have dK : VaX V U Wn D M1 σ := d.up g1.1 (Ft.rf [] σ) (by decide) (by decide) (by decide)
  obtain ⟨a, h, n1, n2, ⟨n3, n4⟩, n5⟩ := z_next ht0 ⟨s1, s2⟩ wK dK ht e224
  have e85 : mI M1 85 1 = nI t0 := dK.2.1.1.trans ht
  have e94' : mI M1 94 1 = nI st := (g1.1.i rfl 1).trans e94
  have kE : K_X0_oneStep M = KJ_X0_oneStep_34 (nI h) M1 := by
    unfold K_X0_oneStep
    rw [a1, ob_some, n1, ob_some, nm_eq, e85, e94']
    rcases n5 with ⟨z, e⟩ | ⟨z, e⟩
    · rw [ifT z, e]
    · rw [ifF z, e]
  have cK : (mI M1 85 1 ≤ 2147483647 - nI h) ↔ t0 + h ≤ 2147483647 := by
    rw [e85, show (2147483647 : Int32) = nI 2147483647 from rfl, nI_sub (by omega), bI_le (by omega) (by omega)]; omega
  have cT : (lg_cmp (tI σ 165).toInt64 (2147483647 - (nI h).toInt64) ≤ 0) ↔ t0 + h ≤ 2147483647 := by
    rw [ht, nI_i64 (by omega), nI_i64 (by omega), show (2147483647 : Int64) = n64 2147483647 from rfl, n64_sub (by omega), lg_le, n64_lt (by omega) (by omega)]; omega
  rw [kE]
  unfold KJ_X0_oneStep_34 F_oneStep
  rw [n2, ob_some]
  by_cases z : t0 + h ≤ 2147483647
  · -- it goes
    rw [ifT (cK.mpr z), ifT (cT.mpr z), show F_keep 0 σ = _ from a2, ob_some]
    have g01 : RsK ruI ruA ruT V D M σ M1 σ1' := g1.mono (by decide) (by decide) (by decide)
    have h01 : tI σ1' 0 = 0 := (g1.2.1 0 rfl).1.trans h0
    have w1 := w.kf g1.1 (by decide) (by decide) g1.2.1 (by decide) h01 g1.2.2
    have d1 : VaX V U Wn D M1 σ1' := d.up g1.1 g1.2.1 (by decide) (by decide) (by decide)
    have p1 : BsS C B P mss fss V U S q A Wn K1 K2 N D t0 M1 σ1' := ⟨w1, d1, ke, b3.trans ht, km, k3, (g1.1.i rfl 1).trans m93, (g1.2.1 223 rfl).1.trans m223⟩
    have h95' : mI M1 95 1 = tI σ1' 237 := by rw [g1.1.i rfl, (g1.2.1 237 rfl).1]; exact h95
    have c' : EvN2 0 M1 σ1' := c.up g1.1 g1.2.1 ⟨rfl, rfl⟩ ⟨rfl, rfl⟩
    have hst' : MsR2 M1 σ1' := ⟨⟨km, k3, (g1.1.i rfl 1).trans m93, (g1.2.1 223 rfl).1.trans m223⟩, st, ⟨s1, s2⟩, e94', (g1.2.1 224 rfl).1.trans e224⟩
    have t165 : tI σ1' 165 = nI t0 := (g1.2.1 165 rfl).1.trans ht
    have i96 : mI M1 96 1 = mI M 96 1 := g1.1.i rfl 1
    refine Or.imp (OsF.pre g01 ⟨(g1.2.1 238 rfl).1, (g1.2.1 239 rfl).1⟩) (OsG.pre g01 i96) ?_
    -- what comes when the values of a state behind are alike
    have evt : ∀ (M3 : CM) (σ3 : TS) (k : Nat), RsK bsI bsA bsT V D M1 σ1' M3 σ3 → BsS C B P mss fss V U S q A Wn K1 K2 N D t0 M3 σ3 → tI σ3 165 = nI (t0 + k) → k ≤ h → OsF V U Wn D M1 σ1' (kEv M3) (J_oneStep_196 (tsI σ3 237 (tI σ3 237 + 1))) ∨ OsG C B P mss fss V U S q A Wn K1 K2 N D M1 σ1' (kEv M3) (J_oneStep_196 (tsI σ3 237 (tI σ3 237 + 1))) := fun M3 σ3 k g p t hk => by
      obtain ⟨s4, hs4⟩ : ∃ X, X = tsI σ3 237 (tI σ3 237 + 1) := ⟨_, rfl⟩
      have f4 : Ft [237] σ3 s4 := by rw [hs4]; exact (Ft.rf _ σ3).p_tsI rfl
      have g4 : RsK ruI ruA ruT V D M1 σ1' M3 s4 := ⟨g.1.mono (by decide) (by decide) (by decide) (by decide), (g.2.1.mono (by decide)).tr (f4.mono (by decide)), g.2.2⟩
      have gl : RsK [] [] [237] V D M3 σ3 M3 s4 := ⟨KF.rf, f4, PaK.rf⟩
      have p4 : BsS C B P mss fss V U S q A Wn K1 K2 N D t0 M3 s4 := by
        obtain ⟨q1, q2, q3, q4, k', q5, q6, q7⟩ := p
        exact ⟨q1.kf KF.rf (I0 := []) (A0 := []) rfl rfl f4 (by decide) ((f4 0 rfl).1.trans q2.1) PaK.rf, q2.up (KF.rf (D := D) (I := []) (A := [])) f4 (by decide) (by decide) (by decide), q3.up gl rfl (by decide) (by decide), (f4 232 rfl).2.2.1 0 ▸ q4, k', q5, q6, (f4 223 rfl).1.trans q7⟩
      rw [← hs4]
      have e95 : mI M3 95 1 + 1 = tI s4 237 := by rw [hs4, tI_tsI, ifT rfl, g.1.i rfl, (g.2.1 237 rfl).1, h95']
      have ff : Ft (237 :: bsT) σ1' s4 := (g.2.1.mono (by decide)).tr (f4.mono (by decide))
      have cc : EvN2 0 M3 s4 := c'.up g.1 ff ⟨rfl, rfl⟩ ⟨rfl, rfl⟩
      have ms : MsR2 M3 s4 := by
        obtain ⟨⟨k', j1, j2, j3⟩, st', j4, j5, j6⟩ := hst'
        exact ⟨⟨k', j1, (g.1.i rfl 1).trans j2, (f4 223 rfl).1.trans ((g.2.1 223 rfl).1.trans j3)⟩, st', j4, (g.1.i rfl 1).trans j5, (f4 224 rfl).1.trans ((g.2.1 224 rfl).1.trans j6)⟩
      exact Or.imp (OsF.pre g4 ⟨(f4 238 rfl).1.trans (g.2.1 238 rfl).1, (f4 239 rfl).1.trans (g.2.1 239 rfl).1⟩) (OsG.pre g4 (g.1.i rfl 1)) (z_evt p4 cc e95 ms ⟨t0 + k, by omega, (f4 165 rfl).1.trans t⟩ c1 c2)
    rcases p1.st (nI h) with ⟨M2, σ2, wx, y, k1, k2, fo⟩ | ⟨x, y, M2, σ2, k1, k2, g2, rfl, p2, t2⟩
    · left
      rw [k1, obS_inr, k2, ob_some, t_isBad1 fo.ne, ob_some, ifF (show ¬ (1 : Int32) = 0 by decide), t_57B fo.ne]
      exact os_bad p1 h95' fo c1 c2
    rw [k1, obS_inl, k2, ob_some, t_isBad0 p2.2.1.1, ob_some, ifT (rfl : (0 : Int32) = 0)]
    rcases p2.df with ⟨M3, σ3, wx, y, k3', k4, fo⟩ | ⟨x, b, M3, σ3, k3', k4, g3, ⟨rfl, hb⟩, p3, t3⟩
    · left
      rw [k3', obS_inr, k4, ob_some]
      have := os_bad p1 h95' (fo.pre g2 n94) c1 c2
      by_cases y0 : y = 0
      · rw [ifT y0, t_57B fo.ne]; exact this
      · rw [ifF y0, t_58B fo.ne]; exact this
    rw [k3', obS_inl, k4, ob_some]
    have g13 := g2.tr g3 n94
    have tm : tI σ3 165 = nI (t0 + h) := by rw [t3, t2, t165, bI_add]
    rcases hb with rfl | rfl
    · -- no relation differs
      rw [ifT (rfl : (0 : Int32) = 0), ifT (rfl : (0 : Int32) = 0)]
      unfold J_oneStep_57 J_oneStep_58 J_oneStep_159
      rw [ifT (rfl : (0 : Int32) = 0), t_isBad0 p3.2.1.1, ob_some, ifT (rfl : (0 : Int32) = 0), nm_eq, ifT (rfl : (0 : Int32) = 0)]
      obtain ⟨s4, hs4⟩ : ∃ X, X = tsI σ3 237 (tI σ3 237 + 1) := ⟨_, rfl⟩
      have f4 : Ft [237] σ3 s4 := by rw [hs4]; exact (Ft.rf _ σ3).p_tsI rfl
      have w4 := p3.1.kf KF.rf (I0 := []) (A0 := []) rfl rfl f4 (by decide) ((f4 0 rfl).1.trans p3.2.1.1) PaK.rf
      have d4 : VaX V U Wn D M3 s4 := p3.2.1.up (KF.rf (D := D) (I := []) (A := [])) f4 (by decide) (by decide) (by decide)
      obtain ⟨v, v1, v2⟩ := z_anyDue w4 d4
      have ev := evt M3 σ3 h g13 p3 tm (Nat.le_refl _)
      rw [← hs4] at ev ⊢
      rw [v1, v2, ob_some, ob_some]
      by_cases v0 : v = 0
      · right
        rw [ifT v0, ifT v0, nm_eq]
        obtain ⟨M5, hM5⟩ : ∃ X, X = msI M3 95 1 (mI M3 95 1 + 1) := ⟨_, rfl⟩
        have k5 : KF D [95] [] [] [] M3 M5 := by rw [hM5]; exact KF.rf.wI rfl TZ.one
        rw [← hM5]
        have g5 : RsK ruI ruA ruT V D M1 σ1' M5 s4 := (g13.mono (by decide) (by decide) (by decide)).tr ⟨k5.mono (by decide) (by decide) (by decide) (by decide), f4.mono (by decide), PaK.of k5 rfl⟩ rfl
        refine ⟨M5, s4, 0, rfl, rfl, Or.inl rfl, g5, ⟨w4.kf k5 (by decide) (by decide) (Ft.rf [] s4) (by decide) d4.1 (PaK.of k5 rfl), d4.up k5 (Ft.rf [] s4) (by decide) (by decide) (by decide), ?_, ?_, ⟨t0 + h, by omega, (f4 165 rfl).1.trans tm⟩, ?_⟩, ?_⟩
        · have c3 : EvN2 0 M3 σ3 := c'.up g13.1 g13.2.1 ⟨rfl, rfl⟩ ⟨rfl, rfl⟩
          exact c3.up k5 f4 ⟨rfl, rfl⟩ ⟨rfl, rfl⟩
        · rw [hM5, mI_msI, ifT ⟨rfl, rfl⟩, hs4, tI_tsI, ifT rfl, g13.1.i rfl, (g13.2.1 237 rfl).1, h95']
        · obtain ⟨⟨k', j1, j2, j3⟩, st', j4, j5, j6⟩ := hst'
          exact ⟨⟨k', j1, by rw [k5.i rfl, g13.1.i rfl]; exact j2, (f4 223 rfl).1.trans ((g13.2.1 223 rfl).1.trans j3)⟩, st', j4, by rw [k5.i rfl, g13.1.i rfl]; exact j5, (f4 224 rfl).1.trans ((g13.2.1 224 rfl).1.trans j6)⟩
        · rw [k5.i rfl, g13.1.i rfl, Int32.add_zero]
      · rw [ifF v0, ifF v0]
        exact ev
    · -- one differs: where?
      rw [ifF (show ¬ (1 : Int32) = 0 by decide), ifF (show ¬ (1 : Int32) = 0 by decide)]
      unfold J_oneStep_58
      rw [ifF (show ¬ (1 : Int32) = 0 by decide)]
      rcases bs_loop (m := h) 1 (by omega) h 0 h FU FU M3 σ3 (by omega) (by omega) (Nat.le_refl _) (by omega) (by omega) p3 with ⟨M4, σ4, wx, y, k5, k6, fo⟩ | ⟨x, y, M4, σ4, k5, k6, g4, ⟨h', rfl, rfl, h1, h2⟩, p4⟩
      · left
        rw [show KL_X0_oneStep_72 FU 0 (nI h) M3 = _ from k5, obS_inr, show L_oneStep_68 FU 1 0 (nI h) σ3 = _ from k6, ob_some, t_141B fo.ne]
        exact os_bad p1 h95' (fo.pre g13 n94) c1 c2
      rw [show KL_X0_oneStep_72 FU 0 (nI h) M3 = _ from k5, obS_inl, show L_oneStep_68 FU 1 0 (nI h) σ3 = _ from k6, ob_some]
      obtain ⟨M5, σ5, b4, b5, g5, p5, t5⟩ := p4.bk
      unfold J_oneStep_141
      rw [b4, ob_some, t_isBad0 p4.2.1.1, ob_some, ifT (rfl : (0 : Int32) = 0), b5, ob_some]
      have g15 := (g13.tr g4 n94).tr g5 n94
      rcases p5.st (nI h') with ⟨M6, σ6, wx, y, k7, k8, fo⟩ | ⟨x, y, M6, σ6, k7, k8, g6, rfl, p6, t6⟩
      · left
        rw [k7, obS_inr, k8, ob_some, t_159B fo.ne]
        exact os_bad p1 h95' (fo.pre g15 n94) c1 c2
      rw [k7, obS_inl, k8, ob_some]
      unfold J_oneStep_159
      rw [t_isBad0 p6.2.1.1, ob_some, ifT (rfl : (0 : Int32) = 0), nm_eq, ifF (show ¬ (1 : Int32) = 0 by decide)]
      exact evt M6 σ6 h' (g15.tr g6 n94) p6 (by rw [t6, t5, bI_add]) h2
  · -- time would end
    have nt : ¬ mI M1 85 1 ≤ 2147483647 - nI h := fun y => z (cK.mp y)
    have nt2 : ¬ lg_cmp (tI σ 165).toInt64 (2147483647 - (nI h).toInt64) ≤ 0 := fun y => z (cT.mp y)
    obtain ⟨-, -, -, -, -, -, -, -, -, hc⟩ := wK.st
    left
    rw [ifF nt, ifF nt2, k_wrong hc.1 hc.2, ob_some, ifT (wM_k _ _ _), t_badT h0, ob_some]
    exact os_41 w d h95 a1 c1 c2
end ONESTEP
