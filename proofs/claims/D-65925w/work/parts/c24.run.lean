/-! Layer B: running: run, both sides -/
set_option maxRecDepth 100000
abbrev rfI : List Nat := [4, 5, 85, 86, 90, 92, 95, 96, 97, 800, 3213, 3214, 3804, 3805]
abbrev rfT : List Nat := [0, 1, 2, 3, 111, 163, 165, 166, 167, 168, 169, 170, 171, 222, 225, 226, 228, 229, 230, 231, 232, 233, 234, 235, 236, 237, 238, 239, 240, 241, 242, 243, 244]
/-- what a run leaves -/
def RuO (V U Wn : Nat) (D : FQ) (M : CM) (σ : TS) (M' : CM) (σ' : TS) : Prop := (∃ n, n ≤ 2 ∧ RB D rfI ruA n M M') ∧ Ft rfT σ σ' ∧ PaK V D σ M M' ∧ VaX V U Wn D M' σ' ∧ (EvN2 0 M' σ' ∧ mI M' 95 1 = tI σ' 237) ∧ (mI M' 4 1 = tI σ' 2 ∧ mI M' 5 1 = tI σ' 3) ∧ ((mI M' 92 1 = 0 ∧ tI σ' 111 = 0 ∧ ∃ t0, t0 < 2147483648 ∧ tI σ' 165 = nI t0) ∨ (mI M' 92 1 = 1 ∧ tI σ' 111 = 1))
section RUN
variable {pq : Bool} {C C' : PC} {B : Nat} {P : Nat → Prop} {mss fss : List Nat} {V U S q A Wn K1 K2 N e r w v u b n i j k a m kf tf h wo nb t0 X : Nat} {D : FQ} {M M' M1 : CM} {σ σ' s σ1 : TS} {x x1 x2 x3 y z y1 y2 y3 : Int32} {I A0 T : List Nat}
theorem k_failW (hk : mk M wo = 7) : K_X0_fails wo M = some (-5, msI (msI M 4 1 (mI M 1200 wo)) 5 1 (mI M 1201 wo)) := by
  unfold K_X0_fails
  have h2 : mk (msI M 4 1 (mI M 1200 wo)) wo = 7 := hk
  rw [ifT hk, nm_eq, ifT h2, nm_eq, mI_msI, ifF (fun z => by omega)]
theorem rn_loop (hX : X ≤ 20) (x2 : Int32) : ∀ (m k kf tf : Nat) (y : Int32) (M : CM) (σ : TS), k + m = X → m < kf → m < tf → RnS C B P mss fss V U S q A Wn K1 K2 N D M σ → cN C + 2 ≤ 601024 → cS C + 16 ≤ 7293034 → mI M 96 1 = x2 + y → mI M 92 1 = 0 → tI σ 111 = 0 →
    (∃ M' σ' y', (KL_X0_run_37 kf (nI X) x2 (nI k) M = some (.inl (), M') ∧ L_run_39 tf (nI X) y (nI k) σ = some (.inl y', σ')) ∧ RnS C B P mss fss V U S q A Wn K1 K2 N D M' σ' ∧ RsK ruI ruA ruT V D M σ M' σ' ∧ mI M' 96 1 = x2 + y') ∨
    (∃ M' σ', (KL_X0_run_37 kf (nI X) x2 (nI k) M = some (.inr (-5), M') ∧ L_run_39 tf (nI X) y (nI k) σ = some (.inr (-5), σ')) ∧ RuO V U Wn D M σ M' σ') := by
  intro m
  induction m with
  | zero =>
    intro k kf tf y M σ e hk ht S0 c1 c2 h96 h92 h111
    obtain ⟨kf, rfl⟩ : ∃ g, kf = g + 1 := ⟨kf - 1, by omega⟩
    obtain ⟨tf, rfl⟩ : ∃ g, tf = g + 1 := ⟨tf - 1, by omega⟩
    have t : nI X ≤ nI k := by rw [bI_le (by omega) (by omega)]; omega
    exact Or.inl ⟨M, σ, y, ⟨by rw [KL_X0_run_37, ifT t], by rw [L_run_39, ifT t]⟩, S0, RsK.rf, h96⟩
  | succ m ih =>
    intro k kf tf y M σ e hk ht S0 c1 c2 h96 h92 h111
    obtain ⟨kf, rfl⟩ : ∃ g, kf = g + 1 := ⟨kf - 1, by omega⟩
    obtain ⟨tf, rfl⟩ : ∃ g, tf = g + 1 := ⟨tf - 1, by omega⟩
    have t : ¬ nI X ≤ nI k := by rw [bI_le (by omega) (by omega)]; omega
    rw [KL_X0_run_37, ifF t, nm_eq, nm_eq, L_run_39, ifF t]
    rcases z_oneStep S0 c1 c2 with ⟨n, wo, M1, M2, σ2, y2, ⟨k1, k2, k3⟩, ⟨n2, rb⟩, f, va, pk, ⟨o1, o2, o3, o4, o5⟩, ⟨h171, h90⟩, j1, j2, j3⟩ | ⟨M', σ', y2, k1, k2, y01, g, S1, e96⟩
    · right
      obtain ⟨w, d, ⟨cn1, cn2⟩, -⟩ := S0
      have tw : L_run_39 (tf + 1) (nI X) y (nI k) σ = some (.inr (-5), flT (tsI σ2 111 1)) := by
        rw [L_run_39, ifF t, k2, ob_some]
        by_cases y0 : y2 = 0
        · rw [ifT y0, t_isBad1 o5, ob_some, ifF (show ¬ (1 : Int32) = 0 by decide), nm_eq, t_faulted, ob_some]
        · rw [ifF y0, nm_eq, t_isBad1 o5, ob_some, ifF (show ¬ (1 : Int32) = 0 by decide), nm_eq, t_faulted, ob_some]
      rw [L_run_39, ifF t] at tw
      obtain ⟨M3, hM3⟩ : ∃ Y, Y = msI (msI (msI M2 96 1 (mI M 96 1)) 97 1 (mI M 97 1)) 92 1 1 := ⟨_, rfl⟩
      have k3' : KF D [92, 96, 97] [] [] [] M2 M3 := by rw [hM3]; exact ((KF.rf.wI rfl TZ.one).wI rfl TZ.one).wI rfl TZ.one
      have hk3 : mk M3 wo = 7 := (k3'.k _).trans o2
      obtain ⟨M4, hM4⟩ : ∃ Y, Y = msI (msI M3 4 1 (mI M3 1200 wo)) 5 1 (mI M3 1201 wo) := ⟨_, rfl⟩
      have k4 : KF D [4, 5] [] [] [] M3 M4 := by rw [hM4]; exact (KF.rf.wI rfl TZ.one).wI rfl TZ.one
      have k34 : KF D [4, 5, 92, 96, 97] [] [] [] M2 M4 := (k3'.mono (by decide) (by decide) (by decide) (by decide)).tr (k4.mono (by decide) (by decide) (by decide) (by decide))
      obtain ⟨s4, hs4⟩ : ∃ Y, Y = flT (tsI σ2 111 1) := ⟨_, rfl⟩
      have f4 : Ft [0, 2, 3, 111] σ2 s4 := by rw [hs4]; exact (((Ft.rf [0, 2, 3, 111] σ2).p_tsI rfl)).tr (flT_f.mono (by decide))
      have z0 : tI s4 0 = 0 := by rw [hs4]; rfl
      refine ⟨M4, s4, ⟨?_, by rw [hs4]; exact tw⟩, ⟨n, n2, RB.kf (k34.mono (by decide) (by decide) (by decide) (by decide)) n (RB.mono (by decide) (by decide) n M M2 rb)⟩, (f.mono (by decide)).tr (f4.mono (by decide)), fun v hv z => (k34.i rfl _).trans (pk v hv z), ⟨z0, ?_, ?_, ?_⟩, ⟨⟨?_, ?_⟩, ?_⟩, ⟨?_, ?_⟩, Or.inr ⟨?_, ?_⟩⟩
      · rw [k1, obS_inr, k3, ob_some, nm_eq, nm_eq, nm_eq, ← hM3, k_failW hk3, ob_some, hM4]
      · have va' := va.ft (f4.mono (S' := [0, 2, 3, 111]) (by decide)) (by decide)
        obtain ⟨v1, v2, v3, v4, v5⟩ := va'
        exact ⟨(k34.i rfl _).trans v1, fun u hu => by rw [k34.ga rfl, k34.ga rfl]; exact v2 u hu, fun v hv z => by rw [k34.i rfl, k34.i rfl]; exact v3 v hv z, fun r hr z => by rw [k34.ga rfl]; exact v4 r hr z, fun j hj => by rw [k34.i rfl]; exact v5 j hj⟩
      · exact (f4 171 rfl).1.trans h171
      · rw [k34.i rfl, (f4 222 rfl).1]; exact h90
      · rw [k4.i rfl, hM3, mI_msI, ifF (by omega), mI_msI, ifT ⟨rfl, rfl⟩, (f4 239 rfl).1, j3]; exact cn1
      · rw [k4.i rfl, hM3, mI_msI, ifF (by omega), mI_msI, ifF (by omega), mI_msI, ifT ⟨rfl, rfl⟩, (f4 238 rfl).1, j2]; exact cn2
      · rw [k34.i rfl, (f4 237 rfl).1]; exact j1
      · rw [hM4, mI_msI, ifF (by omega), mI_msI, ifT ⟨rfl, rfl⟩, k3'.i rfl, o3, hs4]; rfl
      · rw [hM4, mI_msI, ifT ⟨rfl, rfl⟩, k3'.i rfl, o4, hs4]; rfl
      · rw [k4.i rfl, hM3, mI_msI, ifT ⟨rfl, rfl⟩]
      · rw [hs4]; rfl
    · have h0 : tI σ' 0 = 0 := S1.2.1.1
      have tw : (ob (F_oneStep σ) fun r5 s4 => if r5 = 0 then ob (F_isBad s4) fun r9 s8 => if r9 = 0 then nm (nI k + 1) fun v12 => L_run_39 tf (nI X) y v12 s8 else nm (tsI s8 111 1) fun s13 => ob (F_faulted s13) fun r15 s14 => some (.inr r15, s14) else nm (y + 1) fun v19 => ob (F_isBad s4) fun r21 s20 => if r21 = 0 then nm (nI k + 1) fun v24 => L_run_39 tf (nI X) v19 v24 s20 else nm (tsI s20 111 1) fun s25 => ob (F_faulted s25) fun r27 s26 => some (.inr r27, s26)) = L_run_39 tf (nI X) (y + y2) (nI (k + 1)) σ' := by
        rw [k2, ob_some]
        rcases y01 with rfl | rfl
        · rw [ifT (rfl : (0 : Int32) = 0), t_isBad0 h0, ob_some, ifT (rfl : (0 : Int32) = 0), nm_eq, p1n, Int32.add_zero]
        · rw [ifF (show ¬ (1 : Int32) = 0 by decide), nm_eq, t_isBad0 h0, ob_some, ifT (rfl : (0 : Int32) = 0), nm_eq, p1n]
      rw [k1, tw, obS_inl, nm_eq, p1n]
      rcases ih (k + 1) kf tf (y + y2) M' σ' (by omega) (by omega) (by omega) S1 c1 c2 (by rw [e96, h96, Int32.add_assoc]) ((g.1.i rfl 1).trans h92) ((g.2.1 111 rfl).1.trans h111) with ⟨M2, σ2, y', q1, q2, q3, q4⟩ | ⟨M2, σ2, q1, ⟨n, n2, rb⟩, q3, q4, q5⟩
      · exact Or.inl ⟨M2, σ2, y', q1, q2, g.tr q3 rfl, q4⟩
      · exact Or.inr ⟨M2, σ2, q1, ⟨n, n2, RB.pre (g.1.mono (by decide) (by decide) (by decide) (by decide)) n _ rb⟩, (g.2.1.mono (by decide)).tr q3, g.2.2.tr q4 (fun v => (g.2.1 94 rfl).2.2.1 v), q5⟩
/-- a run -/
theorem z_run (S0 : RnS C B P mss fss V U S q A Wn K1 K2 N D M σ) (c1 : cN C + 2 ≤ 601024) (c2 : cS C + 16 ≤ 7293034) (h91 : ¬ mI M 91 1 = 0) (h110 : ¬ tI σ 110 = 0) (h92 : mI M 92 1 = 0) (h111 : tI σ 111 = 0) (h45 : mI M 4 1 = tI σ 2 ∧ mI M 5 1 = tI σ 3) (x1 : Int32) : ∃ r M' σ', K_X0_run x1 M = some (r, M') ∧ F_run x1 σ = some (r, σ') ∧ RuO V U Wn D M σ M' σ' := by
  have fu : 1000 < FU := by unfold FU; decide
  have stay : RuO V U Wn D M σ M σ := ⟨⟨0, by decide, KF.rf⟩, Ft.rf _ _, PaK.rf, S0.2.1, ⟨S0.2.2.1, S0.2.2.2.1⟩, h45, Or.inl ⟨h92, h111, S0.2.2.2.2.1⟩⟩
  unfold K_X0_run F_run
  by_cases z1 : x1 < 1
  · rw [ifT z1, ifT z1]; exact ⟨_, _, _, rfl, rfl, stay⟩
  rw [ifF z1, ifF z1]
  by_cases z2 : x1 ≤ 20
  · rw [ifT z2, ifT z2, ifF h91, ifF h110, ifT h92, ifT h111, nm_eq, nm_eq]
    obtain ⟨X, hX, X20⟩ : ∃ X, x1 = nI X ∧ X ≤ 20 := by
      have a1 := Int32.le_iff_toInt_le.mp z2
      have a2 := Int32.le_iff_toInt_le.mp (Int32.not_lt.mp z1)
      have e20 : (20 : Int32).toInt = 20 := rfl
      have e1 : (1 : Int32).toInt = 1 := rfl
      refine ⟨x1.toInt.toNat, ?_, by omega⟩
      apply Int32.toInt_inj.mp
      rw [bI_toInt (by omega)]; omega
    obtain ⟨s3, hs3⟩ : ∃ Y, Y = tsI σ 0 0 := ⟨_, rfl⟩
    have f3 : Ft [0] σ s3 := by rw [hs3]; exact (Ft.rf _ σ).p_tsI rfl
    have h03 : tI s3 0 = 0 := by rw [hs3]; rfl
    have S3 : RnS C B P mss fss V U S q A Wn K1 K2 N D M s3 := by
      obtain ⟨w, d, c, e95, ⟨t0, t1, t2⟩, ⟨k, j1, j2, j3⟩, st, j4, j5, j6⟩ := S0
      have vv := d.2.1.ft f3 (by decide)
      exact ⟨w.kf KF.rf (I0 := []) (A0 := []) rfl rfl f3 (by decide) h03 PaK.rf, ⟨h03, vv, (f3 171 rfl).1.trans d.2.2.1, d.2.2.2.trans (f3 222 rfl).1.symm⟩, c.up (KF.rf (D := D) (I := []) (A := [])) f3 ⟨rfl, rfl⟩ ⟨rfl, rfl⟩, e95.trans (f3 237 rfl).1.symm, ⟨t0, t1, (f3 165 rfl).1.trans t2⟩, ⟨k, j1, j2, (f3 223 rfl).1.trans j3⟩, st, j4, j5, (f3 224 rfl).1.trans j6⟩
    rw [← hs3, hX]
    rcases rn_loop X20 (mI M 96 1) X 0 FU FU 0 M s3 (by omega) (by omega) (by omega) S3 c1 c2 (by rw [Int32.add_zero]) h92 ((f3 111 rfl).1.trans h111) with ⟨M', σ', y', ⟨k1, k2⟩, S1, g, e⟩ | ⟨M', σ', ⟨k1, k2⟩, ⟨n, n2, rb⟩, q3, q4, q5⟩
    · rw [show KL_X0_run_37 FU (nI X) (mI M 96 1) 0 M = _ from k1, show L_run_39 FU (nI X) 0 0 s3 = _ from k2, obS_inl, obS_inl]
      refine ⟨y', M', σ', by rw [e, Int32.add_comm, Int32.add_sub_cancel], rfl, ⟨0, by decide, g.1.mono (by decide) (by decide) (by decide) (by decide)⟩, (f3.mono (by decide)).tr (g.2.1.mono (by decide)), fun v hv z => g.2.2 v hv (by rw [(f3 94 rfl).2.2.1]; exact z), S1.2.1, ⟨S1.2.2.1, S1.2.2.2.1⟩, ⟨?_, ?_⟩, Or.inl ⟨(g.1.i rfl 1).trans h92, (g.2.1 111 rfl).1.trans ((f3 111 rfl).1.trans h111), S1.2.2.2.2.1⟩⟩
      · rw [g.1.i rfl, (g.2.1 2 rfl).1, (f3 2 rfl).1]; exact h45.1
      · rw [g.1.i rfl, (g.2.1 3 rfl).1, (f3 3 rfl).1]; exact h45.2
    · rw [show KL_X0_run_37 FU (nI X) (mI M 96 1) 0 M = _ from k1, show L_run_39 FU (nI X) 0 0 s3 = _ from k2, obS_inr, obS_inr]
      exact ⟨_, M', σ', rfl, rfl, ⟨n, n2, rb⟩, (f3.mono (by decide)).tr q3, fun v hv z => q4 v hv (by rw [(f3 94 rfl).2.2.1]; exact z), q5⟩
  · rw [ifF z2, ifF z2]; exact ⟨_, _, _, rfl, rfl, stay⟩
end RUN
