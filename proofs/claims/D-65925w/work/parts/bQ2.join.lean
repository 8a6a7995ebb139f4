/-! Layer B: the flat model: all stages joined -/
set_option maxRecDepth 100000
/-- the twin's tail -/
def Tl (σ σ' : TS) (E : Nat) : Prop := Ft [128, 129, 130, 174, 175] σ σ' ∧ (tI σ' 128 = tI σ 126 ∧ tI σ' 129 = 0 ∧ tI σ' 130 = 0) ∧ ∀ k, k < E → tA σ' 174 k = tA σ 141 k ∧ tA σ' 175 k = tA σ 142 k
/-- what stands once a model is flat -/
def FlD (C : PC) (B : Nat) (P : Nat → Prop) (mss fss : List Nat) (D : FQ) (M : CM) (σ' : TS) : Prop := ∃ σ V I Bm z7 K N E A Wn q qs, BS 1 z7 C B P mss fss V I Bm 0 0 D M σ K N E A Wn ∧ St12 D M σ V ∧ SeT σ I (2 * I) qs ∧ (tI σ 154 = nI q ∧ q ≤ 24 ∧ CvQ V K N D M σ q E Wn ∧ RlT V K N D M σ q) ∧ tI σ 144 = nI E ∧ Tl σ σ' E ∧ WcS σ A Wn
/-- what comes of it -/
def FlE (C : PC) (B : Nat) (P : Nat → Prop) (mss fss : List Nat) (M : CM) (σ : TS) (kr : Option ((Unit ⊕ Nat) × CM)) (tr : Option (Unit × TS)) : Prop := (∃ M' σ' w, kr = some (.inr w, M') ∧ tr = some ((), σ') ∧ FfB C B P mss fss M M' σ σ' w) ∨ ∃ D' M' σ', kr = some (.inl (), M') ∧ tr = some ((), σ') ∧ FlD C B P mss fss D' M' σ' ∧ SgX M M' σ σ' ∧ Wz C C P M M' σ σ'
/-- what stands besides before relations are numbered -/
def T0 (σ : TS) : Prop := tA σ 44 (ix (tA σ 74 0)) = 0 ∧ tI σ 140 = nI 0 ∧ tI σ 154 = nI 0 ∧ Wc σ
/-- what stands besides behind it -/
def T1 (V I K N E Wn : Nat) (D : FQ) (M : CM) (σ : TS) : Prop := ∃ q qs, SeT σ I (2 * I) qs ∧ (tI σ 154 = nI q ∧ q ≤ 24 ∧ CvQ V K N D M σ q E Wn ∧ RlT V K N D M σ q) ∧ tI σ 144 = nI E ∧ Wc σ
section JOIN
variable {zb : Nat} {x3 : Int32} {z7 : Nat → Nat} {C : PC} {D D' : FQ} {M M' M1 M2 : CM} {σ σ' s σ1 σ2 : TS} {mss fss : List Nat} {B V I Bm Lp K N K' N' E A Wn w k q qs : Nat} {P : Nat → Prop} {S : List Nat} {kr : Option ((Unit ⊕ Nat) × CM)} {tr : Option (Unit × TS)} {δ β : Type} {fb : Nat → δ}
theorem FlE.pre (v : Wz C C P M M1 σ σ1) (g : SgX M M1 σ σ1) (h : FlE C B P mss fss M1 σ1 kr tr) : FlE C B P mss fss M σ kr tr := by
  rcases h with ⟨M', σ', w, a1, a2, a3⟩ | ⟨D', M', σ', a1, a2, a3, a4, a5⟩
  · exact Or.inl ⟨M', σ', w, a1, a2, a3.pre g⟩
  · exact Or.inr ⟨D', M', σ', a1, a2, a3, g.tr a4, v.tr a5 (fun _ z => z)⟩
theorem T0.ft (h : T0 σ) (f : Ft S σ σ') (hS : [44, 74, 140, 154].all (fun k => !S.contains k) = true) (hc : Wc σ') : T0 σ' := by
  have hf : ∀ k, k ∈ [44, 74, 140, 154] → S.contains k = false := fun k hk => by simpa using List.all_eq_true.mp hS k hk
  refine ⟨?_, (f 140 (hf 140 (by decide))).1.trans h.2.1, (f 154 (hf 154 (by decide))).1.trans h.2.2.1, hc⟩
  rw [(f 44 (hf 44 (by decide))).2.2.1, (f 74 (hf 74 (by decide))).2.2.1]
  exact h.1
theorem T1.mv (h : T1 V I K N E Wn D M σ) (nk : NdK D M σ D' M' σ' 106 K N) (hK : K ≤ K') (hN : N ≤ N') (hKN : K < N) (f : Ft S σ σ') (hS : [44, 74, 141, 142, 143, 144, 145, 146, 147, 148, 151, 152, 153, 154, 155, 156, 157].all (fun k => !S.contains k) = true) : T1 V I K' N' E Wn D' M' σ' := by
  have hf : ∀ k, k ∈ [44, 74, 141, 142, 143, 144, 145, 146, 147, 148, 151, 152, 153, 154, 155, 156, 157] → S.contains k = false := fun k hk => by simpa using List.all_eq_true.mp hS k hk
  have sub : ∀ L : List Nat, (∀ k, k ∈ L → k ∈ [44, 74, 141, 142, 143, 144, 145, 146, 147, 148, 151, 152, 153, 154, 155, 156, 157]) → L.all (fun k => !S.contains k) = true := fun L hL => by
    rw [List.all_eq_true]
    intro k hk
    rw [hf k (hL k hk)]
    rfl
  obtain ⟨q, qs, a1, ⟨a2, a3, a4, a6⟩, a5, a7⟩ := h
  exact ⟨q, qs, a1.ft f (sub _ (by decide)), ⟨(f 154 (hf 154 (by decide))).1.trans a2, a3, a4.mv nk hK hN hKN f (sub _ (by decide)), a6.mv nk hK hN hKN (f 153 (hf 153 (by decide))).2.2.1 f (sub _ (by decide))⟩, (f 144 (hf 144 (by decide))).1.trans a5, a7.ft f (sub _ (by decide))⟩
theorem BS.kn (h : BS zb z7 C B P mss fss V I Bm Lp x3 D M σ K N E A Wn) : K < N := by
  have := h.1.2.2.1.2.2.1.2.1
  omega
/-- a stage -/
theorem FlE.st {g : δ → Unit ⊕ Nat} {kr0 : Option ((Unit ⊕ δ) × CM)} {tr0 : Option (β × TS)} {kk : CM → Option ((Unit ⊕ Nat) × CM)} {tt : TS → Option (Unit × TS)} (h : BO zb z7 C B P mss fss V I Bm Lp x3 fb D M σ K N E A Wn kr0 tr0) (hg : ∀ w, g (fb w) = .inr w) (bad : ∀ M' s w, FfB C B P mss fss M M' σ s w → ∃ s', tt s = some ((), s') ∧ FfB C B P mss fss M M' σ s' w) (good : ∀ D' M' σ' K' N' E' A' Wn' y, tr0 = some (y, σ') → BS zb z7 C B P mss fss V I Bm Lp x3 D' M' σ' K' N' E' A' Wn' → FlE C B P mss fss M' σ' (kk M') (tt σ')) : FlE C B P mss fss M σ (obS kr0 (fun r M => some (g r, M)) fun _ M => kk M) (ob tr0 fun _ s => tt s) := by
  rcases h with ⟨M', σ', w, y, a1, a2, a3⟩ | ⟨D', M', σ', K', N', E', A', Wn', r, y, a1, a2, a3, a4, a5⟩
  · obtain ⟨s', b1, b2⟩ := bad M' σ' w a3
    exact Or.inl ⟨M', s', w, by rw [a1, obS_inr, hg], by rw [a2, ob_some, b1], b2⟩
  · rw [a1, a2, obS_inl, ob_some]
    exact (good D' M' σ' K' N' E' A' Wn' y a2 a3).pre a5.1 a5.2.2.2.1
/-- the twin's tail -/
theorem t_611g (hE : E ≤ 120) (h4 : tI s 144 = nI E) : ∃ s', J_makeFlat_611 s = some ((), s') ∧ Tl s s' E := by
  have hFU : 200 < FU := by unfold FU; decide
  obtain ⟨s7, hs7⟩ : ∃ q, q = tsI (tsI (tsI s 130 0) 128 (tI (tsI s 130 0) 126)) 129 0 := ⟨_, rfl⟩
  have f7 : Ft [128, 129, 130] s s7 := by rw [hs7]; exact (((Ft.rf _ s).p_tsI rfl).p_tsI rfl).p_tsI rfl
  obtain ⟨s', e1, e2, -, e4⟩ := t_631 E 0 FU s7 (by omega) hE (by rw [hs7]; exact h4) (by omega)
  refine ⟨s', ?_, (f7.mono (by decide)).tr (e2.mono (by decide)), ⟨?_, ?_, ?_⟩, fun k hk => ?_⟩
  · unfold J_makeFlat_611
    rw [nm_eq, nm_eq, nm_eq, ← hs7, show L_makeFlat_631 FU 0 s7 = some ((), s') from e1, ob_some]
  · rw [(e2 128 rfl).1, hs7]; rfl
  · rw [(e2 129 rfl).1, hs7]; rfl
  · rw [(e2 130 rfl).1, hs7]; rfl
  · obtain ⟨q1, q2⟩ := e4 k (Nat.zero_le _) hk
    exact ⟨q1.trans ((f7 141 rfl).2.2.1 k), q2.trans ((f7 142 rfl).2.2.1 k)⟩
theorem Tl.sg (h : Tl σ σ' E) : SgX M M σ σ' := SgX.tw h.1 (by decide)
theorem st9 (h : BS 1 z7 C B P mss fss V I Bm 0 x3 D M σ K N E A Wn) (t : T1 V I K N E Wn D M σ) : FlE C B P mss fss M σ (kS9 M) (J_makeFlat_578 σ) := by
  obtain ⟨h1, bt1⟩ := h.md138 (x3' := 0) (y := 0) (Or.inr ⟨rfl, rfl⟩)
  obtain ⟨σ1, hσ1⟩ : ∃ q, q = tsI σ 138 0 := ⟨_, rfl⟩
  have f1 : Ft [138] σ σ1 := by rw [hσ1]; exact (Ft.rf _ σ).p_tsI rfl
  rw [← hσ1] at h1 bt1
  have hFU : V < FU := by
    have := h.hV.2
    have : 100 < FU := by unfold FU; decide
    omega
  unfold kS9 J_makeFlat_578 K_X0_workStarts
  rw [nm_eq, ← hσ1]
  rcases z_wstarts V 0 FU FU D M σ1 K N E A Wn (Nat.zero_add _) hFU hFU h1 (fun u hu => absurd hu (Nat.not_lt_zero _)) with ⟨M', σ', w, a1, a2, a3⟩ | ⟨M', σ', a1, a2, a3, a4, a5⟩
  · have h4 : ∃ E', E' ≤ 120 ∧ tI σ' 144 = nI E' := by
      obtain ⟨q, qs, -, -, e4, -⟩ := t
      exact ⟨E, h.2.2.1.1.2.2.1, by rw [(fS_L_makeFlat_585 _ _ _ _ _ a2 144 rfl).1, (f1 144 rfl).1]; exact e4⟩
    obtain ⟨s', b1, b2⟩ := t_611b ⟨a3.pre bt1.2.2.2.1, h4⟩
    refine Or.inl ⟨M', s', w, ?_, ?_, b2⟩
    · rw [show KL_X0_workStarts_2 FU 0 M = _ from a1, obS_inr, obS_inr]
    · rw [show L_makeFlat_585 FU 0 σ1 = _ from a2, ob_some, b1]
  · have t2 : T1 V I K N E Wn D M' σ' := (t.mv bt1.2.2.1 (Nat.le_refl _) (Nat.le_refl _) h.kn f1 (by decide)).mv a4.2.2.1 (Nat.le_refl _) (Nat.le_refl _) h.kn (fS_L_makeFlat_585 _ _ _ _ _ a2) (by decide)
    obtain ⟨q, qs, e1, e2, e3, e4⟩ := t2
    have wc : WcS σ' A Wn := by
      obtain ⟨A', Wn', u1, u2, u3, u4, u5⟩ := e4
      have hA := a3.2.2.2.1.1.2
      have hW := a3.2.2.2.2.1.1.2
      have eA : A' = A := (bI_eq (by omega) (by omega)).mp (u1.symm.trans hA.1)
      have eW : Wn' = Wn + 1 / 2 := (bI_eq (by omega) (by omega)).mp (u2.symm.trans hW.1)
      rw [eA, show Wn' = Wn by omega] at u5
      exact u5
    obtain ⟨s', b1, b2⟩ := t_611g a3.2.2.1.1.2.2.1 e3
    obtain ⟨h3, bt3⟩ := a3.md138 (x3' := 0) (y := tI σ' 138) (Or.inr ⟨rfl, by rw [(fS_L_makeFlat_585 _ _ _ _ _ a2 138 rfl).1, hσ1]; rfl⟩)
    refine Or.inr ⟨D, M', s', ?_, ?_, ⟨σ', V, I, Bm, z7, K, N, E, A, Wn, q, qs, ?_, a5, e1, e2, e3, b2, wc⟩, (bt1.2.2.2.1.tr a4.2.2.2.1).tr b2.sg, (bt1.1.tr a4.1 (fun _ z => z)).tr (a3.fw.wzT b2.1 (by decide)).2 (fun _ z => z)⟩
    · rw [show KL_X0_workStarts_2 FU 0 M = _ from a1, obS_inl, obS_inl]
    · rw [show L_makeFlat_585 FU 0 σ1 = _ from a2, ob_some, b1]
    · exact a3
theorem st8 (hB1 : B ≤ 1280) (h : BS 1 z7 C B P mss fss V I Bm 0 0 D M σ K N E A Wn) (t : T1 V I K N E Wn D M σ) : FlE C B P mss fss M σ (kS8 M) (J_makeFlat_517 σ) := by
  obtain ⟨h1, bt1⟩ := h.md138 (x3' := 1) (y := 1) (Or.inl ⟨rfl, by decide⟩)
  obtain ⟨σ1, hσ1⟩ : ∃ q, q = tsI σ 138 1 := ⟨_, rfl⟩
  have f1 : Ft [138] σ σ1 := by rw [hσ1]; exact (Ft.rf _ σ).p_tsI rfl
  rw [← hσ1] at h1 bt1
  have hFU : V < FU := by
    have := h.hV.2
    have : 100 < FU := by unfold FU; decide
    omega
  refine FlE.pre bt1.1 bt1.2.2.2.1 ?_
  unfold kS8 J_makeFlat_517
  rw [nm_eq, ← hσ1]
  have t1 := t.mv bt1.2.2.1 (Nat.le_refl _) (Nat.le_refl _) h.kn f1 (by decide)
  have z := z_starts hB1 (E := E) (A := A) (Wn := Wn) V 0 FU FU D M σ1 K N (Nat.zero_add _) hFU hFU h1
  rcases z with ⟨M', σ', w, y, a1, a2, a3⟩ | ⟨D', M', σ', K', N', E', A', Wn', r, y, a1, a2, a3, a4, a5⟩
  · have h4 : ∃ E', E' ≤ 120 ∧ tI σ' 144 = nI E' := by
      obtain ⟨q, qs, -, -, e4, -⟩ := t1
      exact ⟨E, h.2.2.1.1.2.2.1, by rw [(fS_L_makeFlat_524 _ _ _ _ _ a2 144 rfl).1]; exact e4⟩
    obtain ⟨s', b1, b2⟩ := t_578b ⟨a3, h4⟩
    refine Or.inl ⟨M', s', w, ?_, ?_, b2⟩
    · rw [show KL_X0_flatten_298 FU 0 M = _ from a1, obS_inr]
    · rw [show L_makeFlat_524 FU 0 σ1 = _ from a2, ob_some, b1]
  · have f2 := fS_L_makeFlat_524 _ _ _ _ _ a2
    have eE : E' = E := by
      have e1 := a3.2.2.1.1.2.1
      rw [(f2 143 rfl).1, h1.2.2.1.1.2.1] at e1
      have := a3.2.2.1.1.2.2.1
      have := h1.2.2.1.1.2.2.1
      exact ((bI_eq (by omega) (by omega)).mp e1).symm
    have eW : Wn' = Wn := by
      have e1 := a3.2.2.2.2.1.1.2.1
      rw [(f2 148 rfl).1, h1.2.2.2.2.1.1.2.1] at e1
      have := a3.2.2.2.2.1.1.2.2.1
      have := h1.2.2.2.2.1.1.2.2.1
      have := (bI_eq (by omega) (by omega)).mp e1
      omega
    have t2 := t1.mv a5.2.2.1 a4.1 a4.2.1 h.kn f2 (by decide)
    rw [show KL_X0_flatten_298 FU 0 M = _ from a1, show L_makeFlat_524 FU 0 σ1 = _ from a2, obS_inl, ob_some]
    exact FlE.pre a5.1 a5.2.2.2.1 (st9 a3 (by rw [eE, eW]; exact t2))
theorem st7 (hB1 : B ≤ 1280) (h : BS 1 z7 C B P mss fss V I Bm 0 0 D M σ K N E A Wn) (t : T1 V I K N E Wn D M σ) : FlE C B P mss fss M σ (kS7 M) (J_makeFlat_506 σ) := by
  unfold kS7 J_makeFlat_506
  rw [t_isBad0 h.h0, ob_some, ifT (rfl : (0 : Int32) = 0)]
  rcases z_disc h with ⟨a1, a2, a3⟩ | ⟨a1, a2⟩
  · have h4 : ∃ E', E' ≤ 120 ∧ tI (badT σ 30) 144 = nI E' := by
      obtain ⟨q, qs, -, -, e4, -⟩ := t
      exact ⟨E, h.2.2.1.1.2.2.1, by rw [(fS_F_checkActions _ _ _ a2 144 rfl).1]; exact e4⟩
    obtain ⟨s', b1, b2⟩ := t_517b ⟨a3, h4⟩
    exact Or.inl ⟨_, s', _, by rw [a1, obS_inr], by rw [a2, ob_some, b1], b2⟩
  · rw [a1, a2, obS_inl, ob_some]
    exact st8 hB1 h t
theorem BS.t144 (h : BS zb z7 C B P mss fss V I Bm Lp x3 D M σ K N E A Wn) (f : Ft [144] σ σ') : BS zb z7 C B P mss fss V I Bm Lp x3 D M σ' K N E A Wn ∧ BTr V C P K N D M σ D M σ' := by
  obtain ⟨W', vz⟩ := h.fw.wzT f (by decide)
  obtain ⟨Fs', bt⟩ := h.1.bw ⟨rfl, rfl⟩ W' vz (Fq.rf (T := fun _ => False)) (fun _ z => z.elim) (fun k hk => ⟨fun _ _ => rfl, fun _ _ => rfl⟩) (Dx.rf D M) ⟨fun _ _ => rfl, fun _ => rfl⟩ ⟨rfl, rfl⟩ f (by decide) (by decide) (by decide)
  exact ⟨⟨Fs', h.2.mv h.fw h.hV bt.2.2.1 (Nat.le_refl _) (Nat.le_refl _) (T := fun _ => False) Fq.rf (fun _ z => z.elim) (Dx.rf D M) (fun _ _ => rfl) f (by decide)⟩, bt⟩
theorem st6 (hB1 : B ≤ 1280) (h : BS 1 z7 C B P mss fss V I Bm 0 0 D M σ K N E A Wn) (t : T0 σ) (hs : SeT σ I (2 * I) qs) : FlE C B P mss fss M σ (kS6 M) (J_makeFlat_487 σ) := by
  obtain ⟨σ1, hσ1⟩ : ∃ q, q = tsI σ 144 (tI σ 143) := ⟨_, rfl⟩
  have f1 : Ft [144] σ σ1 := by rw [hσ1]; exact (Ft.rf _ σ).p_tsI rfl
  have e4 : tI σ1 144 = nI E := by rw [hσ1, tI_tsI, ifT rfl]; exact h.2.2.1.1.2.1
  obtain ⟨h1, bt1⟩ := h.t144 f1
  refine FlE.pre bt1.1 bt1.2.2.2.1 ?_
  have t1 := t.ft f1 (by decide) (t.2.2.2.ft f1 (by decide))
  have s1 := hs.ft f1 (by decide)
  unfold kS6 J_makeFlat_487
  rw [nm_eq, ← hσ1, t_isBad0 h1.h0, ob_some, ifT (rfl : (0 : Int32) = 0)]
  have h41 : mI M 41 1 = nI 0 := by
    obtain ⟨-, -, q, ⟨q1, q2, q3⟩, -⟩ := h1.2.2.2.2.2.1.2.2
    rw [q1, ← q2]
    exact t1.2.2.1
  have hwc : WcS σ1 A Wn := by
    obtain ⟨A', Wn', w1, w2, w3, w4, w5⟩ := t1.2.2.2
    have c1 := h1.2.2.2.1.1
    have d1 := h1.2.2.2.2.1.1
    have eA : A' = A := nIq (w1.symm.trans c1.2.1) (by omega) (by omega)
    have eW : Wn' = Wn := nIq (w2.symm.trans d1.2.1) (by omega) (by omega)
    rw [← eA, ← eW]; exact w5
  rcases z_numbers h1 h41 t1.2.2.1 t1.2.1 hwc with ⟨M', w, s', a1, a2, a3⟩ | ⟨M', s', q', S', a1, a2, ⟨n1, n2, n3, n4, ⟨n5, n6, n8⟩, n7⟩, a4, a5⟩
  · have h4 : ∃ E', E' ≤ 120 ∧ tI s' 144 = nI E' := ⟨E, h.2.2.1.1.2.2.1, by rw [(fS_F_numberAll _ _ _ a2 144 rfl).1]; exact e4⟩
    obtain ⟨s2, b1, b2⟩ := t_506b ⟨a3, h4⟩
    exact Or.inl ⟨M', s2, w, by rw [a1, obS_inr], by rw [a2, ob_some, b1], b2⟩
  · rw [a1, a2, obS_inl, ob_some]
    refine FlE.pre n2.1 n2.2.2.2.1 (st7 hB1 n1 ⟨q', qs, s1.ft n6 (by decide), ⟨n3.1.2.1, n3.1.2.2, CvQ.of n1.2 n3 a4 a5, RlT.of n3 n8⟩, (n6 144 rfl).1.trans e4, t1.2.2.2.ft n6 (by decide)⟩)
theorem st5 (hB1 : B ≤ 1280) (h : BS 1 z7 C B P mss fss V I Bm 0 0 D M σ K N E A Wn) (t : T0 σ) : FlE C B P mss fss M σ (kS5 M) (J_makeFlat_476 σ) := by
  unfold kS5 J_makeFlat_476
  rw [t_isBad0 h.h0, ob_some, ifT (rfl : (0 : Int32) = 0)]
  rcases z_connections h t.1 with ⟨M', σ', w, a1, a2, a3⟩ | ⟨D', M', σ', K', N', E', A', Wn', q, a1, a2, a3, a4, a5, a6⟩
  · obtain ⟨s2, b1, b2⟩ := t_487b a3
    exact Or.inl ⟨M', s2, w, by rw [a1, obS_inr]; rfl, by rw [a2, ob_some, b1], b2⟩
  · rw [a1, a2, obS_inl, ob_some]
    exact FlE.pre a5.1 a5.2.2.2.1 (st6 hB1 a3 (t.ft (fS_F_connections _ _ _ a2) (by decide) (t.2.2.2.ft (fS_F_connections _ _ _ a2) (by decide))) a6)
theorem st4 (hB1 : B ≤ 1280) (h : BS 1 z7 C B P mss fss V I Bm 0 0 D M σ K N E A Wn) (t : T0 σ) : FlE C B P mss fss M σ (kS4 M) (J_makeFlat_464 σ) := by
  have FX := h.fx
  have l99 : 0 < (pl D 99).length := by
    have := FX.1.1.2.1
    have := FX.2.1.2.2.2.1
    omega
  have get : K_J2_get 99 0 M = some ((pl D 99).getD 0 0, M) := ls_get (h.fw.2.1.1 99 (by decide)).1 l99
  have k99 : mk M ((pl D 99).getD 0 0) = 14 := (h.fw.2.1.2.1 99 (by decide) 0 l99).1
  unfold kS4 J_makeFlat_464
  rw [t_isBad0 h.h0, ob_some, ifT (rfl : (0 : Int32) = 0), get, ob_some, ifT (Or.inr k99)]
  exact FlE.st (g := Sum.inr) (fb := id) (z_all hB1 h) (fun w => rfl) (fun M' s w f => t_476b f) (fun D' M' σ' K' N' E' A' Wn' y e b => st5 hB1 b (t.ft (fS_F_collect _ _ _ _ e) (by decide) (t_collW t.2.2.2 e b.h0)))
theorem st3 (hB1 : B ≤ 1280) (h : BS 1 z7 C B P mss fss V I Bm 0 0 D M σ K N E A Wn) (t : T0 σ) : FlE C B P mss fss M σ (kS3 M) (J_makeFlat_387 σ) := by
  have hFU : V < FU := by
    have := h.hV.2
    have : 100 < FU := by unfold FU; decide
    omega
  unfold kS3 J_makeFlat_387
  exact FlE.st (g := id) (fb := Sum.inr) (z_valEqs hB1 V 0 FU FU D M σ K N E A Wn (Nat.zero_add _) hFU hFU h) (fun w => rfl) (fun M' s w f => t_464b f) (fun D' M' σ' K' N' E' A' Wn' y e b => st4 hB1 b (t.ft (fS_L_makeFlat_389 _ _ _ _ _ e) (by decide) (t.2.2.2.ft (fS_L_makeFlat_389 _ _ _ _ _ e) (by decide))))
theorem st2 (hB1 : B ≤ 1280) (h : BS 0 z7 C B P mss fss V I Bm 0 1 D M σ K N E A Wn) (t : T0 σ) : FlE C B P mss fss M σ (kS2 M) (J_makeFlat_344 σ) := by
  have hFU : V < FU := by
    have := h.hV.2
    have : 100 < FU := by unfold FU; decide
    omega
  obtain ⟨M2, a1, a2, a3⟩ := z_wp0 h
  obtain ⟨σ1, hσ1⟩ : ∃ q, q = tsI σ 138 0 := ⟨_, rfl⟩
  have f1 : Ft [138] σ σ1 := by rw [hσ1]; exact (Ft.rf _ σ).p_tsI rfl
  rw [← hσ1] at a2 a3
  refine FlE.pre a3.1 a3.2.2.2.1 ?_
  unfold kS2 J_makeFlat_344
  rw [nm_eq, ← hσ1, a1]
  have t1 := t.ft f1 (by decide) (t.2.2.2.ft f1 (by decide))
  have z := z_params V 0 FU FU D M2 σ1 K N E A Wn (Nat.zero_add _) hFU hFU a2
  rcases z with ⟨M', σ', w, y, c1, c2, c3⟩ | ⟨D', M', σ', K', N', E', A', Wn', r, y, c1, c2, c3, c4, c5⟩
  · obtain ⟨s2, b1, b2⟩ := t_387b c3
    exact Or.inl ⟨M', s2, w, by rw [show KL_X0_workParameters_53 FU 0 M2 = _ from c1, obS_inr, obS_inr], by rw [show L_makeFlat_351 FU 0 σ1 = _ from c2, ob_some, b1], b2⟩
  · rw [show KL_X0_workParameters_53 FU 0 M2 = _ from c1, show L_makeFlat_351 FU 0 σ1 = _ from c2, obS_inl, obS_inl, ob_some]
    exact FlE.pre c5.1 c5.2.2.2.1 (st3 hB1 c3 (t1.ft (fS_L_makeFlat_351 _ _ _ _ _ c2) (by decide) (t1.2.2.2.ft (fS_L_makeFlat_351 _ _ _ _ _ c2) (by decide))))
theorem st1 (hB1 : B ≤ 1280) (h : BS 0 z7 C B P mss fss V I Bm 0 1 D M σ K N E A Wn) (t : T0 σ) : FlE C B P mss fss M σ (kF2 M) (ob (L_makeFlat_280 FU 0 σ) (fun _ s101 => J_makeFlat_344 s101)) := by
  have hFU : V < FU := by
    have := h.hV.2
    have : 100 < FU := by unfold FU; decide
    omega
  have z := z_parTrees hB1 (E := E) (A := A) (Wn := Wn) V 0 FU FU D M σ K N (Nat.zero_add _) hFU hFU h
  unfold kF2
  exact FlE.st (g := id) (fb := Sum.inr) z (fun w => rfl) (fun M' s w f => t_344b f) (fun D' M' σ' K' N' E' A' Wn' y e b => st2 hB1 b (t.ft (fS_L_makeFlat_280 _ _ _ _ _ e) (by decide) (t.2.2.2.ft (fS_L_makeFlat_280 _ _ _ _ _ e) (by decide))))
/-- a model is flat, both sides -/
theorem z_makeFlat (hB1 : B ≤ 1280) (W : FW C B P mss fss D M σ) (hk : k < mss.length) (h0 : tI σ 0 = 0) (h171 : tI σ 171 = 0) (h43 : mI M 43 1 = tI σ 156) (h44 : tA σ 44 k = 0) : FlE C B P mss fss M σ (K_X0_flatten (mss.getD k 0) M) (F_makeFlat (nI k) σ) := by
  rcases z_head1 hB1 W hk h0 h171 h43 with ⟨M', σ', w, a1, a2, a3⟩ | ⟨D', M', σ', V, I, Bm, z7, a1, a2, a3, a4, a5, a6, a7⟩
  · exact Or.inl ⟨M', σ', w, a1, a2, a3⟩
  · rw [a1, a2]
    have hk24 : k < 24 := by
      have := W.1.2.2.2.2.1.1.1
      omega
    refine FlE.pre a7 a6 (st1 hB1 a3 ⟨?_, a5.1, a5.2, 0, 0, a3.2.2.2.1.1.2.1, a3.2.2.2.2.1.1.2.1, by decide, by decide, fun _ => 0, rfl, rfl, fun k hk => absurd hk (Nat.not_lt_zero _)⟩)
    rw [a4, ix_nI (by omega), (a6.2.2.1 44 rfl).2.2.1]
    exact h44
end JOIN
