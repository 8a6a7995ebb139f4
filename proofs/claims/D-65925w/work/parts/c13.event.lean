/-! Layer B: running: an event, both sides -/
set_option maxRecDepth 100000
/-- counts of events and of whens that fired -/
def EvN2 (x : Int32) (M : CM) (σ : TS) : Prop := mI M 97 1 = tI σ 239 ∧ mI M 96 1 + x = tI σ 238
section EVENT
variable {pq : Bool} {C : PC} {B : Nat} {P : Nat → Prop} {mss fss : List Nat} {V U S q A Wn K1 K2 N e r w v u b n i j k a m kf tf h : Nat} {D : FQ} {M M' M1 : CM} {σ σ' s : TS} {x x1 x2 x3 y z y1 y2 y3 : Int32} {I A0 T : List Nat}
theorem EvN2.up (c : EvN2 x M σ) (kk : KF D I [] A0 [] M M') (f : Ft T σ σ') (hI : I.contains 96 = false ∧ I.contains 97 = false) (hT : T.contains 238 = false ∧ T.contains 239 = false) : EvN2 x M' σ' := ⟨by rw [kk.i hI.2, (f 239 hT.2).1]; exact c.1, by rw [kk.i hI.1, (f 238 hT.1).1]; exact c.2⟩
theorem t_J314F (hs : tI s 0 ≠ 0) {rec : Int32 → Int32 → TS → Option ((Unit ⊕ Unit) × TS)} : J_event_314_111 rec x1 x2 x3 s = some (.inr (), s) := by
  unfold J_event_314_111
  rw [t_isBad1 hs, ob_some, ifF (show ¬ (1 : Int32) = 0 by decide)]
theorem t_247J (hs : tI s 0 ≠ 0) {rec : Int32 → Int32 → TS → Option ((Unit ⊕ Unit) × TS)} : (ob (L_event_247 FU x1 x2 x3 0 s) fun q s => J_event_314_111 rec x1 x2 q s) = some (.inr (), s) := by
  obtain ⟨g, hg⟩ := fuEx
  rw [hg, t_247F hs, ob_some, t_J314F hs]
theorem t_J207F (hW : Wn ≤ 12) (hs : tI s 0 ≠ 0) (h : tI s 148 = nI Wn) {rec : Int32 → Int32 → TS → Option ((Unit ⊕ Unit) × TS)} : ∃ s', J_event_207_111 rec x1 x2 x3 s = some (.inr (), s') ∧ Ft [236] s s' := by
  have fu : 1000 < FU := by unfold FU; decide
  obtain ⟨s', e1, e2⟩ := t_210F (tf := FU) (y1 := x1) (y2 := x2) (y3 := x3) hW hs h 0 (by omega) (by omega)
  refine ⟨s', ?_, e2⟩
  unfold J_event_207_111
  have hs' : tI s' 0 ≠ 0 := by rw [(e2 0 rfl).1]; exact hs
  rw [show L_event_210 FU x1 x2 x3 0 s = _ from e1, ob_some]
  exact t_247J hs'
/-- the loop ends well only without a fault -/
theorem t_111b : ∀ (tf : Nat) (x2 : Int32) (σ : TS) {u : Unit}, L_event_111 tf x1 x2 σ = some (.inl u, s) → tI s 0 = 0
  | 0, _, _, _, h => by rw [L_event_111] at h; cases h
  | tf + 1, x2, σ, u, h => by
    rw [L_event_111] at h
    obtain ⟨a1, s1, -, h⟩ := ob_e h
    obtain ⟨r, -, h⟩ := ob_bad h
    by_cases z : r = 0
    · rw [ifT z] at h
      obtain ⟨a2, s2, -, h⟩ := ob_e h
      unfold J_event_207_111 at h
      obtain ⟨a3, s3, -, h⟩ := ob_e h
      obtain ⟨a4, s4, -, h⟩ := ob_e h
      unfold J_event_314_111 at h
      obtain ⟨r, r0, h⟩ := ob_bad h
      by_cases z2 : r = 0
      · rw [ifT z2] at h
        obtain ⟨a5, s5, e5, h⟩ := ob_e h
        by_cases z3 : a4 = 0
        · rw [ifT z3] at h
          cases h
          have f := fS_L_event_325 _ _ _ _ _ _ _ _ e5
          rw [(f 0 rfl).1]; exact r0.mp z2
        · rw [ifF z3] at h
          by_cases z4 : x2 = 20
          · rw [ifT z4] at h
            obtain ⟨a6, s6, -, h⟩ := ob_e h
            cases h
          · rw [ifF z4] at h
            obtain ⟨a6, s6, -, h⟩ := ob_e h
            rw [nm_eq] at h
            exact t_111b tf _ _ h
      · rw [ifF z2] at h; cases h
    · rw [ifF z] at h; cases h
/-- values before, in a round -/
theorem z_pre2 (w : RnW C B P mss fss V U S q A Wn K1 K2 N D M σ) (d : VaE 1 V U Wn D M σ) (x1 x3 : Int32) : ∃ M' σ', K_X0_preOfDiscretes M = some ((), M') ∧ L_event_378 FU x1 x3 0 σ = some ((), σ') ∧ KF D [3214] [] [] [] M M' ∧ Ft [169] σ σ' ∧ RnW C B P mss fss V U S q A Wn K1 K2 N D M' σ' ∧ VaE 1 V U Wn D M' σ' := by
  obtain ⟨⟨V96, V98, -⟩, ⟨h15, h107⟩, -⟩ := w.st
  obtain ⟨M', a1, a2, a3⟩ := k_pre w.1 h15 ⟨V98, V96⟩
  obtain ⟨σ', b1, b2, b3⟩ := t_ev378 V96 x1 x3 h107
  have g : RsK evI evA evT V D M σ M' σ' := ⟨a2.mono (by decide) (by decide) (by decide) (by decide), b2.mono (by decide), PaK.of a2 rfl⟩
  obtain ⟨c1, c2, c3, c4, c5, c6⟩ := d
  refine ⟨M', σ', a1, b1, a2, b2, w.vk g ((b2 0 rfl).1.trans c1.1), ⟨(b2 0 rfl).1.trans c1.1, by rw [a2.i rfl, (b2 165 rfl).1]; exact c1.2.1, by rw [a2.i rfl]; exact c1.2.2⟩, fun u hu => ?_, fun j hj z => ?_, fun j hj z => ?_, ⟨(b2 171 rfl).1.trans c5.1, by rw [a2.i rfl, (b2 222 rfl).1]; exact c5.2⟩, fun j hj => ?_⟩
  · rw [a2.ga rfl, a2.ga rfl, (b2 166 rfl).2.2.1, (b2 167 rfl).2.2.1]; exact c2 u hu
  · rw [(b2 94 rfl).2.2.1] at z
    have kz : mI M 3203 ((pl D 98).getD j 0) = 2 := by
      obtain ⟨-, -, ⟨k, -, k2, k3⟩, -⟩ := w.vr hj
      rw [k2, ← k3]; exact z
    rw [a2.i rfl, a3 j hj kz, (b2 168 rfl).2.2.1, b3 j hj]
    exact ⟨(c3 j hj z).1, (c3 j hj z).1⟩
  · rw [(b2 154 rfl).1] at z
    rw [a2.ga rfl, (b2 163 rfl).2.2.1]; exact c4 j hj z
  · rw [a2.i rfl, (b2 235 rfl).2.2.1]; exact c6 j hj
/-- a fault behind a step of the component alone -/
theorem FoR.wk0 (w : RnW C B P mss fss V U S q A Wn K1 K2 N D M σ) (kk : KF D I [] A0 [] M M') (pk : PaK V D σ M M') (h171 : tI σ 171 = nI 0) (h90 : mI M' 90 1 = tI σ 222) (hr : x ≠ 0) (hT : T.contains 0 = true ∧ T.contains 1 = true) : FoR true I A0 T 1 V D M σ (wM M' x 0) (badT σ x) (mn M') := by
  obtain ⟨n167, n98⟩ := w.lt
  have en : mn M' = mn M := kk.n
  refine ⟨1, x, ⟨Nat.le_refl _, M', x, 0, kk, KF.rf⟩, ⟨Nat.lt_succ_self _, wM_k M' x 0, (wM_v M' x 0).1⟩, hr, ⟨rfl, fun _ => (wM_v M' x 0).2⟩, badT_f.mono (by simp only [List.all_cons, List.all_nil, hT.1, hT.2]; rfl), ⟨h171, ?_⟩, fun v hv z => ?_⟩
  · exact (((wM_f M' x 0).so (show 1 < mn M' by omega) (fun q => q)).i 90).trans h90
  · exact (((wM_f M' x 0).so (by rw [en]; exact n98 v hv) (fun q => q)).i 3213).trans (pk v hv z)
/-- rounds of an event -/
theorem ev_loop (x1 : Int32) : ∀ (m n kf tf : Nat) (M : CM) (σ : TS), n + m = 20 → 1 ≤ m → m + 1 < kf → m < tf → RnW C B P mss fss V U S q A Wn K1 K2 N D M σ → VaE 1 V U Wn D M σ → EvN2 1 M σ →
    RsO true fbR evI evA evT 2 V D M σ (fun a b M' σ' => (a = .inl () ∧ b = .inl ()) ∧ RnW C B P mss fss V U S q A Wn K1 K2 N D M' σ' ∧ VaE 1 V U Wn D M' σ' ∧ EvN2 1 M' σ') (KL_X0_event_84 kf x1 (nI n) 1 M) (L_event_111 tf x1 (nI (n + 1)) σ) := by
  intro m
  induction m with
  | zero => intro n kf tf M σ e h; omega
  | succ m ih =>
    intro n kf tf M σ e _ hk ht w d c
    obtain ⟨kf, rfl⟩ : ∃ g, kf = g + 2 := ⟨kf - 2, by omega⟩
    obtain ⟨tf, rfl⟩ : ∃ g, tf = g + 1 := ⟨tf - 1, by omega⟩
    have fu : 1000 < FU := by unfold FU; decide
    have t : ¬ nI n = 20 := fun z => by
      have := nIq (b := 20) z (by omega) (by omega)
      omega
    have n94 : evT.contains 94 = false := rfl
    obtain ⟨⟨-, -, -, -, q24, -⟩, -, -, -, ⟨⟨h39, h148⟩, W12, Wl⟩, -⟩ := w.st
    rw [show kf + 2 = kf + 1 + 1 from rfl, KL_X0_event_84, ifF (show ¬ (1 : Int32) = 0 by decide), ifF t, nm_eq, p1n, L_event_111]
    have sb := ((z_solveBlocks w d).im (Q2 := fun a _ M' σ' => a = .inl () ∧ RnW C B P mss fss V U S q A Wn K1 K2 N D M' σ' ∧ VaE 1 V U Wn D M' σ' ∧ EvN2 1 M' σ') (fun a b M' σ' g ⟨g1, g2, g3⟩ => ⟨g1, g2, g3, c.up g.1 g.2.1 ⟨rfl, rfl⟩ ⟨rfl, rfl⟩⟩)).mono (I' := evI) (A' := evA) (T' := evT) (nb' := 2) (by decide) (by decide) (by decide) (Nat.le_refl _)
    refine RsO.seq n94 sb (fun wx M' σ' y k1 k2 fo => ?_) (fun a b0 M' σ' k1 k2 g ⟨g1, w1, d1, c1⟩ => ?_)
    · exact ⟨by rw [k1, obS_inr], .inr (), σ', by rw [k2, ob_some, t_isBad1 fo.ne, ob_some, ifF (show ¬ (1 : Int32) = 0 by decide)], Ft.rf _ _, rfl, rfl, rfl, rfl⟩
    subst g1
    rw [k1, k2, obS_inl, ob_some, t_isBad0 d1.1.1, ob_some, ifT (rfl : (0 : Int32) = 0)]
    have fr := ((z_findRels (pq := true) x1 (nI (n + 1)) w1 d1).im (Q2 := fun a b M' σ' => (a = .inl b ∧ (b = 0 ∨ b = 1)) ∧ RnW C B P mss fss V U S q A Wn K1 K2 N D M' σ' ∧ VaE 1 V U Wn D M' σ' ∧ EvN2 1 M' σ') (fun a b M' σ' g ⟨g1, g2, g3⟩ => ⟨g1, g2, g3, c1.up g.1 g.2.1 ⟨rfl, rfl⟩ ⟨rfl, rfl⟩⟩)).mono (I' := evI) (A' := evA) (T' := evT) (nb' := 2) (by decide) (by decide) (by decide) (by decide)
    refine RsO.seq n94 fr (fun wx M2 σ2 y k3 k4 fo => ?_) (fun a b M2 σ2 k3 k4 g ⟨⟨g1, hb⟩, w2, d2, c2⟩ => ?_)
    · obtain ⟨n', r', -, -, -, -, f6, -⟩ := id fo
      have h148' : tI σ2 148 = nI Wn := by rw [(f6 148 rfl).1, (g.2.1 148 rfl).1]; exact h148
      obtain ⟨s', e1, e2⟩ := t_J207F (x1 := x1) (x2 := nI (n + 1)) (x3 := y) (rec := L_event_111 tf) W12 fo.ne h148'
      exact ⟨by rw [k3, obS_inr], .inr (), s', by rw [k4, ob_some]; exact e1, e2.mono (by decide), (e2 0 rfl).1, (e2 1 rfl).1, (e2 171 rfl).1, (e2 222 rfl).1⟩
    subst g1
    rw [k3, k4, obS_inl, ob_some]
    unfold J_event_207_111 K_X0_fire
    have ws := ((ws_loop (pq := true) x1 0 x1 (nI (n + 1)) b Wn 0 FU FU M2 σ2 (by omega) (by omega) (by omega) w2 d2 (fun j hj => absurd hj (Nat.not_lt_zero _))).im (Q2 := fun a _ M' σ' => a = .inl () ∧ RnW C B P mss fss V U S q A Wn K1 K2 N D M' σ' ∧ VaE 1 V U Wn D M' σ' ∧ PdR Wn D M' σ' ∧ EvN2 1 M' σ') (fun a b M' σ' g ⟨g1, g2, g3, g4⟩ => ⟨g1, g2, g3, g4, c2.up g.1 g.2.1 ⟨rfl, rfl⟩ ⟨rfl, rfl⟩⟩)).mono (I' := evI) (A' := evA) (T' := evT) (nb' := 2) (by decide) (by decide) (by decide) (by decide)
    refine RsO.seq n94 ws (fun wx M3 σ3 y k5 k6 fo => ?_) (fun a b3 M3 σ3 k5 k6 g ⟨g1, w3, d3, p3, c3⟩ => ?_)
    · change KL_X0_fire_4 FU x1 0 0 M2 = _ at k5
      change L_event_210 FU x1 (nI (n + 1)) b 0 σ2 = _ at k6
      exact ⟨by rw [k5, obS_inr, obS_inr], .inr (), σ3, by rw [k6, ob_some]; exact t_247J fo.ne, Ft.rf _ _, rfl, rfl, rfl, rfl⟩
    subst g1
    change KL_X0_fire_4 FU x1 0 0 M2 = _ at k5
    change L_event_210 FU x1 (nI (n + 1)) b 0 σ2 = _ at k6
    rw [k5, k6, obS_inl, ob_some]
    have fi := ((fi_loop (pq := true) (x := b) hb x1 (nI (n + 1)) Wn 0 FU FU 0 M3 σ3 (by omega) (by omega) (by omega) (Or.inl rfl) w3 d3 p3 c3.1).im (Q2 := fun a b' M' σ' => (∃ a', (a = .inl a' ∧ b' = b ||| a') ∧ (a' = 0 ∨ a' = 1)) ∧ RnW C B P mss fss V U S q A Wn K1 K2 N D M' σ' ∧ VaE 1 V U Wn D M' σ' ∧ PdR Wn D M' σ' ∧ EvN2 1 M' σ') (fun a b' M' σ' g ⟨g1, g2, g3, g4, g5⟩ => ⟨g1, g2, g3, g4, g5, by rw [g.1.i rfl, (g.2.1 238 rfl).1]; exact c3.2⟩)).mono (I' := evI) (A' := evA) (T' := evT) (nb' := 2) (by decide) (by decide) (by decide) (by decide)
    rw [Int32.or_zero] at fi
    refine RsO.seq n94 fi (fun wx M4 σ4 y k7 k8 fo => ?_) (fun a b' M4 σ4 k7 k8 g ⟨⟨a', ⟨g1, g2⟩, ha⟩, w4, d4, p4, c4⟩ => ?_)
    · change KL_X0_fire_52 FU x1 0 0 M3 = _ at k7
      change L_event_247 FU x1 (nI (n + 1)) b 0 σ3 = _ at k8
      exact ⟨by rw [k7, obS_inr, obS_inr], .inr (), σ4, by rw [k8, ob_some, t_J314F fo.ne], Ft.rf _ _, rfl, rfl, rfl, rfl⟩
    subst g1; subst g2
    change KL_X0_fire_52 FU x1 0 0 M3 = _ at k7
    change L_event_247 FU x1 (nI (n + 1)) b 0 σ3 = _ at k8
    obtain ⟨M5, σ5, e1, e2, g5, w5, d5, kk5, f5⟩ := z_wset a' x1 (nI (n + 1)) (b ||| a') w4 d4 p4
    have c5 := c4.up kk5 f5 ⟨rfl, rfl⟩ ⟨rfl, rfl⟩
    unfold J_event_314_111
    rw [k7, k8, obS_inl, ob_some, t_isBad0 d4.1.1, ob_some, ifT (rfl : (0 : Int32) = 0), e1, e2, ob_some, obS_inl, ob_some, nm_eq]
    refine RsO.pre g5 n94 ?_
    by_cases zz : b ||| a' = 0
    · rw [ifT zz, ifT zz, KL_X0_event_84, ifT zz]
      exact Or.inr ⟨.inl (), .inl (), M5, σ5, rfl, rfl, RsK.rf, ⟨rfl, rfl⟩, w5, d5, c5⟩
    · have e11 : b ||| a' = 1 := by
        rcases hb with rfl | rfl <;> rcases ha with rfl | rfl
        · exact absurd (by decide) zz
        · decide
        · decide
        · decide
      rw [ifF zz, ifF zz, e11]
      obtain ⟨M6, σ6, h1, h2, kk6, f6, w6, d6⟩ := z_pre2 w5 d5 x1 (nI (n + 1))
      rw [h1, ob_some]
      by_cases z20 : nI (n + 1) = 20
      · obtain ⟨-, -, -, -, -, -, -, -, -, hc⟩ := w6.st
        rw [ifT z20, KL_X0_event_84, ifF (show ¬ (1 : Int32) = 0 by decide), ifT z20, k_wrong hc.1 hc.2, ob_some, ifT (wM_k _ _ _), t_badT d5.1.1, ob_some]
        refine Or.inl ⟨_, _, _, .inr (), rfl, rfl, ((FoR.wk0 (T := evT) w5 kk6 (PaK.of kk6 rfl) d5.2.2.2.2.1.1 (by rw [kk6.i rfl]; exact d5.2.2.2.2.1.2) (by decide) ⟨rfl, rfl⟩).mono (by decide) (by decide) (by decide) (by decide))⟩
      · have nm : n + 1 ≠ 20 := fun z => z20 (by rw [z]; rfl)
        rw [ifF z20, h2, ob_some, nm_eq, p1n]
        have g6 : RsK evI evA evT V D M5 σ5 M6 σ6 := ⟨kk6.mono (by decide) (by decide) (by decide) (by decide), f6.mono (by decide), PaK.of kk6 rfl⟩
        exact RsO.pre g6 n94 (ih (n + 1) (kf + 1) tf M6 σ6 (by omega) (by omega) (by omega) (by omega) w6 d6 (c5.up kk6 f6 ⟨rfl, rfl⟩ ⟨rfl, rfl⟩))
/-- an event -/
theorem z_event (x1 : Int32) (w : RnW C B P mss fss V U S q A Wn K1 K2 N D M σ) (d : VaX V U Wn D M σ) (c : EvN2 0 M σ) : RsO true (fun w => (.inr w : Unit ⊕ Nat)) evI evA evT 2 V D M σ (fun a _ M' σ' => a = .inl () ∧ RnW C B P mss fss V U S q A Wn K1 K2 N D M' σ' ∧ VaE 1 V U Wn D M' σ' ∧ EvN2 0 M' σ') (K_X0_event x1 M) (F_event x1 σ) := by
  have fu : 1000 < FU := by unfold FU; decide
  have n94 : evT.contains 94 = false := rfl
  obtain ⟨⟨V96, V98, U180, -, q24, -⟩, ⟨h15, h107⟩, ⟨h57, h197⟩, -, ⟨⟨h39, h148⟩, W12, Wl⟩, -⟩ := w.st
  -- the component: values before
  have a124 := w.ar (a := (124, 50, 180)) (by decide)
  have a125 := w.ar (a := (125, 50, 180)) (by decide)
  obtain ⟨M1, hM1⟩ : ∃ X, X = mcA M 124 (ix 0) 125 (ix 0) (ix 180) := ⟨_, rfl⟩
  have k1 : KF D [] [] [125] [] M M1 := by rw [hM1]; exact KF.rf.mcA rfl (by decide)
  have v1 : ∀ u, u < U → mA M1 125 u = mA M 124 u := fun u hu => by
    rw [hM1, mA_mcA, show ix 0 = 0 by decide, show ix 180 = 180 by decide, ifT ⟨rfl, by omega, by omega⟩, Nat.zero_add, Nat.sub_zero]
  -- the twin
  obtain ⟨s1, hs1⟩ : ∃ X, X = tsI σ 238 (tI σ 238 + 1) := ⟨_, rfl⟩
  have f1 : Ft [238] σ s1 := by rw [hs1]; exact (Ft.rf _ σ).p_tsI rfl
  obtain ⟨s2, b1, b2, b3⟩ := t_ev12 (σ := s1) U180 x1 ((f1 197 rfl).1.trans h197)
  obtain ⟨s3, b4, b5, b6⟩ := t_ev40 (σ := s2) V96 x1 (((b2 107 rfl).1.trans (f1 107 rfl).1).trans h107)
  have ft1 : Ft [167, 169, 238] σ s3 := ((f1.mono (by decide)).tr (b2.mono (by decide))).tr (b5.mono (by decide))
  -- the component again
  have g1 : RsK evI evA evT V D M σ M1 s3 := ⟨k1.mono (by decide) (by decide) (by decide) (by decide), ft1.mono (by decide), PaK.of k1 rfl⟩
  have w1 := w.vk g1 ((ft1 0 rfl).1.trans d.1)
  obtain ⟨M2, a1, k2, a3⟩ := k_pre w1.1 ((k1.i rfl 1).trans h15) ⟨V98, V96⟩
  have kk : KF D [3214] [] [125] [] M M2 := (k1.mono (by decide) (by decide) (by decide) (by decide)).tr (k2.mono (by decide) (by decide) (by decide) (by decide))
  have g2 : RsK evI evA evT V D M σ M2 s3 := ⟨kk.mono (by decide) (by decide) (by decide) (by decide), ft1.mono (by decide), PaK.of kk rfl⟩
  have w2 := w.vk g2 ((ft1 0 rfl).1.trans d.1)
  have d2 : VaX V U Wn D M2 s3 := by
    obtain ⟨c0, ⟨c1, c2, c3, c4, c5⟩, c6, c7⟩ := d
    refine ⟨(ft1 0 rfl).1.trans c0, ⟨by rw [kk.i rfl, (ft1 165 rfl).1]; exact c1, fun u hu => ?_, fun v hv z => ?_, fun j hj z => ?_, fun j hj => ?_⟩, (ft1 171 rfl).1.trans c6, by rw [kk.i rfl, (ft1 222 rfl).1]; exact c7⟩
    · rw [kk.ga rfl, k2.ga rfl, v1 u hu, (ft1 166 rfl).2.2.1, (b5 167 rfl).2.2.1, b3 u hu, (f1 166 rfl).2.2.1]
      exact ⟨(c2 u hu).1, (c2 u hu).1⟩
    · rw [(ft1 94 rfl).2.2.1] at z
      have kz : mI M1 3203 ((pl D 98).getD v 0) = 2 := by
        obtain ⟨-, -, ⟨k, -, k2, k3⟩, -⟩ := w.vr hv
        rw [k1.i rfl, k2, ← k3]; exact z
      rw [kk.i rfl, a3 v hv kz, k1.i rfl, (ft1 168 rfl).2.2.1, b6 v hv, (b2 168 rfl).2.2.1, (f1 168 rfl).2.2.1]
      exact ⟨(c3 v hv z).1, (c3 v hv z).1⟩
    · rw [(ft1 154 rfl).1] at z
      rw [kk.ga rfl, (ft1 163 rfl).2.2.1]; exact c4 j hj z
    · rw [kk.i rfl, (ft1 235 rfl).2.2.1]; exact c5 j hj
  have c2 : EvN2 1 M2 s3 := by
    refine ⟨by rw [kk.i rfl, (ft1 239 rfl).1]; exact c.1, ?_⟩
    rw [kk.i rfl, (b5 238 rfl).1, (b2 238 rfl).1, hs1, tI_tsI, ifT rfl, ← c.2, Int32.add_zero]
  obtain ⟨M3, σ3, e1, e2, g3, w3, d3, k3, f3⟩ := ev_smp x1 q 0 FU FU M2 s3 (by omega) (by omega) (by omega) w2 d2
  have c3 := c2.up k3 f3 ⟨rfl, rfl⟩ ⟨rfl, rfl⟩
  obtain ⟨M4, hM4⟩ : ∃ X, X = msI M3 86 1 1 := ⟨_, rfl⟩
  have k4 : KF D [86] [] [] [] M3 M4 := by rw [hM4]; exact KF.rf.wI rfl TZ.one
  have g4 : RsK evI evA evT V D M3 σ3 M4 σ3 := ⟨k4.mono (by decide) (by decide) (by decide) (by decide), Ft.rf _ _, PaK.of k4 rfl⟩
  have w4 := w3.vk g4 d3.1
  have x4 : VaX V U Wn D M4 σ3 := d3.up k4 (Ft.rf [] σ3) (by decide) (by decide) (by decide)
  have d4 : VaE 1 V U Wn D M4 σ3 := x4.ve (Or.inl ⟨rfl, by rw [hM4, mI_msI, ifT ⟨rfl, rfl⟩]; decide⟩)
  have c4 := c3.up k4 (Ft.rf [] σ3) ⟨rfl, rfl⟩ ⟨rfl, rfl⟩
  have pre : RsK evI evA evT V D M σ M4 σ3 := (g2.tr g3 n94).tr g4 n94
  unfold K_X0_event F_event
  rw [ifT (c180 a124 a125), nm_eq, nm_eq, ← hM1, ← hs1, a1, ob_some, show KL_X0_event_22 FU x1 0 M2 = _ from e1, ob_some, nm_eq, ← hM4, show L_event_12 FU x1 0 s1 = _ from b1, ob_some, show L_event_40 FU x1 0 s2 = _ from b4, ob_some, show L_event_68 FU x1 0 s3 = _ from e2, ob_some]
  refine RsO.pre pre n94 ?_
  refine RsO.seq n94 (ev_loop x1 20 0 FU FU M4 σ3 (by omega) (by omega) (by omega) (by omega) w4 d4 c4) (fun wx M5 σ5 y k5 k6 fo => ?_) (fun a b M5 σ5 k5 k6 g ⟨⟨q1, q2⟩, w5, d5, c5⟩ => ?_)
  · change KL_X0_event_84 FU x1 0 1 M4 = _ at k5
    change L_event_111 FU x1 1 σ3 = _ at k6
    have y0 : y = .inr () := by
      cases y with
      | inl y => exact absurd (t_111b FU 1 σ3 k6) fo.ne
      | inr y => rfl
    subst y0
    exact ⟨by rw [k5, obS_inr], (), σ5, by rw [k6, obS_inr], Ft.rf _ _, rfl, rfl, rfl, rfl⟩
  subst q1; subst q2
  change KL_X0_event_84 FU x1 0 1 M4 = _ at k5
  change L_event_111 FU x1 1 σ3 = _ at k6
  obtain ⟨M6, σ6, e3, e4, g6, w6, x6, kk6, f6⟩ := ev_end q 0 FU FU M5 σ5 (by omega) (by omega) (by omega) w5 d5.vx
  have d6 : VaE 1 V U Wn D M6 σ6 := x6.ve (Or.inl ⟨rfl, by
    rw [kk6.i rfl]
    rcases d5.1.2.2 with z | z
    · exact z.2
    · exact absurd rfl z.1⟩)
  have c6 := c5.up kk6 f6 ⟨rfl, rfl⟩ ⟨rfl, rfl⟩
  rw [k5, k6, obS_inl, obS_inl, show KL_X0_event_135 FU 0 M5 = _ from e3, ob_some, show L_event_415 FU 0 σ5 = _ from e4, ob_some]
  refine RsO.pre g6 n94 ?_
  have sb := ((z_solveBlocks w6 d6).im (Q2 := fun a _ M' σ' => a = .inl () ∧ RnW C B P mss fss V U S q A Wn K1 K2 N D M' σ' ∧ VaE 1 V U Wn D M' σ' ∧ EvN2 1 M' σ') (fun a b M' σ' g ⟨g1, g2, g3⟩ => ⟨g1, g2, g3, c6.up g.1 g.2.1 ⟨rfl, rfl⟩ ⟨rfl, rfl⟩⟩)).mono (I' := evI) (A' := evA) (T' := evT) (nb' := 2) (by decide) (by decide) (by decide) (Nat.le_refl _)
  refine RsO.seq n94 sb (fun wx M7 σ7 y k7 k8 fo => ?_) (fun a b7 M7 σ7 k7 k8 g7 ⟨q1, w7, d7, c7⟩ => ?_)
  · exact ⟨by rw [k7, obS_inr], (), σ7, by rw [k8, ob_some, t_isBad1 fo.ne, ob_some, ifF (show ¬ (1 : Int32) = 0 by decide)], Ft.rf _ _, rfl, rfl, rfl, rfl⟩
  subst q1
  rw [k7, k8, obS_inl, ob_some, t_isBad0 d7.1.1, ob_some, ifT (rfl : (0 : Int32) = 0)]
  have we := ((we_loop (pq := true) Wn 0 FU FU M7 σ7 (by omega) (by omega) (by omega) w7 d7).im (Q2 := fun a _ M' σ' => a = .inl () ∧ RnW C B P mss fss V U S q A Wn K1 K2 N D M' σ' ∧ VaE 1 V U Wn D M' σ' ∧ EvN2 1 M' σ') (fun a b M' σ' g ⟨g1, g2, g3⟩ => ⟨g1, g2, g3, c7.up g.1 g.2.1 ⟨rfl, rfl⟩ ⟨rfl, rfl⟩⟩)).mono (I' := evI) (A' := evA) (T' := evT) (nb' := 2) (by decide) (by decide) (by decide) (by decide)
  refine RsO.seq n94 we (fun wx M8 σ8 y k9 k10 fo => ?_) (fun a b8 M8 σ8 k9 k10 g8 ⟨q1, w8, d8, c8⟩ => ?_)
  · change KL_X0_event_187 FU 0 M7 = _ at k9
    change L_event_466 FU 0 σ7 = _ at k10
    exact ⟨by rw [k9, obS_inr], (), σ8, by rw [k10, ob_some], Ft.rf _ _, rfl, rfl, rfl, rfl⟩
  subst q1
  change KL_X0_event_187 FU 0 M7 = _ at k9
  change L_event_466 FU 0 σ7 = _ at k10
  rw [k9, k10, obS_inl, ob_some, nm_eq]
  have k11 : KF D [96] [] [] [] M8 (msI M8 96 1 (mI M8 96 1 + 1)) := KF.rf.wI rfl TZ.one
  have g11 : RsK evI evA evT V D M8 σ8 (msI M8 96 1 (mI M8 96 1 + 1)) σ8 := ⟨k11.mono (by decide) (by decide) (by decide) (by decide), Ft.rf _ _, PaK.of k11 rfl⟩
  exact Or.inr ⟨_, _, _, _, rfl, rfl, g11, rfl, w8.vk g11 d8.1.1, d8.up k11 (Ft.rf [] σ8) (by decide) (by decide) (by decide), by rw [k11.i rfl]; exact c8.1, by rw [mI_msI, ifT ⟨rfl, rfl⟩, Int32.add_zero]; exact c8.2⟩
end EVENT
