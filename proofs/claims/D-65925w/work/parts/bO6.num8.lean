/-! Layer B: the flat model: relations are numbered, whens and the whole -/
set_option maxRecDepth 100000
section NUMBER8
variable {zb : Nat} {fx : Int32} {C : PC} {D : FQ} {M M' M1 M2 : CM} {σ σ' σ1 σ2 σ0 s s' s1 s2 s3 b : TS} {mss fss : List Nat} {B V I Bm Lp K N E A Wn v l k h h1 h2 n p q q' q2 c1 c2 c3 tf a d F R : Nat} {L L1 L2 L3 : List Nat} {x x2 x3 y r : Int32} {S S' S1 S2 : Nat → Prop} {P : Nat → Prop} {z7 : Nat → Nat}
/-- where a when's actions lie -/
theorem BS.wh (h : BS 1 z7 C B P mss fss V I Bm Lp x3 D M σ K N E A Wn) (hk : k < Wn) (hF : tA σ 146 k = nI F) (hR : tA σ 147 k = nI R) (hFR : F + R ≤ 200) : (K_J2_get 113 (nI k) M = some ((pl D 113).getD k 0, M) ∧ mk M ((pl D 113).getD k 0) = 20) ∧ mI M 3802 ((pl D 113).getD k 0) = nI F ∧ mI M 3803 ((pl D 113).getD k 0) = nI (F + R) ∧ F + R ≤ A ∧ A ≤ 200 := by
  have W := h.fw
  obtain ⟨⟨d1, d2, d3, d4⟩, d5⟩ := h.2.2.2.2.1
  obtain ⟨-, f, m, e1, e2, e3, e4, e5⟩ := d5 k hk
  have cA := h.2.2.2.1.1.2.2.1
  have f1 : f = F := (bI_eq (by omega) (by omega)).mp (e2.symm.trans hF)
  have m1 : m = R := (bI_eq (by omega) (by omega)).mp (e4.symm.trans hR)
  rw [f1] at e1
  rw [f1, m1] at e3 e5
  exact ⟨⟨ls_get (W.2.1.1 113 (by decide)).1 (by omega), (W.2.1.2.1 113 (by decide) k (by omega)).1⟩, e1, e3, by omega, by omega⟩
/-- the failed twin goes over the rest of a when -/
theorem t_77b (h : BS 1 z7 C B P mss fss V I Bm Lp x3 D M σ K N E A Wn) (g : NQ D K M σ q S) (h140 : tI σ 140 = nI 0) (hk : k < 12) (hF : tA σ 146 k = nI F) (hR : tA σ 147 k = nI R) (hFR : F + R ≤ A) : ∀ (m j tf : Nat) (b : TS), j + m = F + R → m < tf → NB σ b → ∃ b', L_numberAll_77 tf (nI k) (nI j) b = some ((), b') ∧ Ft [139] b b' := by
  have cA := h.2.2.2.1.1.2.2.1
  have ik : inb (nI k) 12 := inb_nI' hk (by decide)
  have xk : ix (nI k) = k := ix_nI (by omega)
  have tt : ∀ b, NB σ b → tA b 146 k + tA b 147 k = nI (F + R) := fun b hb => by
    rw [(hb.1.1 146 rfl).2.2.1, (hb.1.1 147 rfl).2.2.1, hF, hR]; exact bI_add F R
  intro m
  induction m with
  | zero =>
    intro j tf b hj ht hb
    obtain ⟨tf, rfl⟩ : ∃ g, tf = g + 1 := ⟨tf - 1, by omega⟩
    refine ⟨b, ?_, Ft.rf _ b⟩
    unfold L_numberAll_77
    rw [ifT ik, ifT ik, xk, tt b hb, ifT ((bI_le (by omega) (by omega)).mpr (by omega))]
  | succ m ih =>
    intro j tf b hj ht hb
    obtain ⟨tf, rfl⟩ : ∃ g, tf = g + 1 := ⟨tf - 1, by omega⟩
    have nx : nI j + 1 = nI (j + 1) := nI_addL j 1
    have ij : inb (nI j) 200 := inb_nI' (by omega) (by decide)
    have xj : ix (nI j) = j := ix_nI (by omega)
    obtain ⟨-, -, n, a1, a2⟩ := h.2.2.2.1.2 j (by omega)
    obtain ⟨b1, u1, u2⟩ := z_nTb h a2 b hb
    obtain ⟨b2, u3, u4⟩ := ih (j + 1) tf b1 (by omega) (by omega) (hb.fr u2)
    refine ⟨b2, ?_, u2.tr u4⟩
    unfold L_numberAll_77
    rw [ifT ik, ifT ik, xk, tt b hb, ifF (fun z => by have := (bI_le (by omega) (by omega)).mp z; omega), ifT ij, xj, (hb.1.1 151 rfl).2.2.1, a1, u1, ob_some, nm_eq, nx, u3]
/-- relations of a when's actions -/
theorem z_nAc (hk : k < Wn) (hk12 : k < 12) (hFR : F + R ≤ 200) : ∀ (m j kf tf : Nat) (M : CM) (σ : TS) (q : Nat) (S : Nat → Prop), j + m = F + R → F ≤ j → m < kf → m < tf → BS 1 z7 C B P mss fss V I Bm Lp x3 D M σ K N E A Wn → NQ D K M σ q S → tI σ 140 = nI 0 → tA σ 146 k = nI F → tA σ 147 k = nI R → (∀ i, F ≤ i → i < j → CvA D M S i) → SdP E E j (k + 1) σ N S →
    (∃ M' w s', KL_X0_numberRelations_87 kf x ((pl D 113).getD k 0) (nI j) M = some (.inr (.inr w), M') ∧ L_numberAll_77 tf (nI k) (nI j) σ = some ((), s') ∧ FfB C B P mss fss M M' σ s' w) ∨
    ∃ M' s' q' S', KL_X0_numberRelations_87 kf x ((pl D 113).getD k 0) (nI j) M = some (.inl (), M') ∧ L_numberAll_77 tf (nI k) (nI j) σ = some ((), s') ∧ NP 1 z7 C B P mss fss V I Bm Lp x3 D K N E A Wn M σ S M' s' q' S' ∧ (∀ i, F ≤ i → i < F + R → CvA D M' S' i) ∧ SdP E E (F + R) (k + 1) s' N S' := by
  have ik : inb (nI k) 12 := inb_nI' hk12 (by decide)
  have xk : ix (nI k) = k := ix_nI (by omega)
  intro m
  induction m with
  | zero =>
    intro j kf tf M σ q S hj hFj hk1 ht h g h140 hF hR hc hp
    obtain ⟨kf, rfl⟩ : ∃ g, kf = g + 1 := ⟨kf - 1, by omega⟩
    obtain ⟨tf, rfl⟩ : ∃ g, tf = g + 1 := ⟨tf - 1, by omega⟩
    obtain ⟨⟨w1, w2⟩, w3, w4, w5, w6⟩ := h.wh hk hF hR hFR
    have le : nI (F + R) ≤ nI j := (bI_le (by omega) (by omega)).mpr (by omega)
    refine Or.inr ⟨M, σ, q, S, ?_, ?_, ⟨h, (BTr.rf h.cn).wk, g, h140, ⟨NuM.rf, Ft.rf _ σ, fun k hk => Or.inl hk⟩, fun k hk => hk⟩, fun i h1 h2 => hc i h1 (by omega), hp.mv (Ft.rf [] σ) (by decide) (by decide) (by omega)⟩
    · unfold KL_X0_numberRelations_87
      rw [ifT w2, w4, ifT le]
    · unfold L_numberAll_77
      rw [ifT ik, ifT ik, xk, hF, hR, show nI F + nI R = nI (F + R) from bI_add F R, ifT le]
  | succ m ih =>
    intro j kf tf M σ q S hj hFj hk1 ht h g h140 hF hR hc hp
    obtain ⟨kf, rfl⟩ : ∃ g, kf = g + 1 := ⟨kf - 1, by omega⟩
    obtain ⟨tf, rfl⟩ : ∃ g, tf = g + 1 := ⟨tf - 1, by omega⟩
    obtain ⟨⟨w1, w2⟩, w3, w4, w5, w6⟩ := h.wh hk hF hR hFR
    have W := h.fw
    have le : ¬ nI (F + R) ≤ nI j := fun z => by have := (bI_le (by omega) (by omega)).mp z; omega
    have nx : nI j + 1 = nI (j + 1) := nI_addL j 1
    have ij : inb (nI j) 200 := inb_nI' (by omega) (by decide)
    have xj : ix (nI j) = j := ix_nI (by omega)
    have cA := h.2.2.2.1.1.2.2.2
    have get : K_J2_get 112 (nI j) M = some ((pl D 112).getD j 0, M) := ls_get (W.2.1.1 112 (by decide)).1 (by omega)
    have kk : mk M ((pl D 112).getD j 0) = 21 := (W.2.1.2.1 112 (by decide) j (by omega)).1
    obtain ⟨-, -, n, a1, a2⟩ := h.2.2.2.1.2 j (by omega)
    unfold KL_X0_numberRelations_87 L_numberAll_77
    rw [ifT w2, w4, ifF le, ifT ik, ifT ik, xk, hF, hR, show nI F + nI R = nI (F + R) from bI_add F R, ifF le, get, ob_some, ifT (Or.inr kk), ifT kk, ifT ij, xj, a1]
    rcases z_nT h g h140 a2 (h.rtA (by omega) a1) (hp.no h (by decide) (by omega) (c := 2) (i := j) a1 (Or.inr (Or.inr (Or.inl ⟨rfl, by omega⟩))) (by unfold Slx; omega)) with ⟨M1, w, s1, e1, e2, e3, e4⟩ | ⟨M1, s1, q1, S1, e1, e2, h1, bt1, g1, p1, ⟨m1, f1, r1⟩, hs1, cv1, oc1⟩
    · obtain ⟨b', u1, u2⟩ := t_77b h g h140 hk12 hF hR w5 m (j + 1) tf s1 (by omega) (by omega) e4
      rw [e1, obS_inr, e2, ob_some, nm_eq, nx, u1]
      exact Or.inl ⟨M1, w, b', rfl, rfl, e3.f139 u2⟩
    · have np1 : NP 1 z7 C B P mss fss V I Bm Lp x3 D K N E A Wn M σ S M1 s1 q1 S1 := ⟨h1, bt1, g1, p1, ⟨m1, f1, r1⟩, hs1⟩
      rw [e1, obS_inl, nm_eq, e2, ob_some, nm_eq, nx]
      have hc2 : ∀ i, F ≤ i → i < j + 1 → CvA D M1 S1 i := fun i h1 h2 => by
        by_cases z : i = j
        · rw [z]
          unfold CvA
          rw [m1.2.2]
          exact cv1.nu m1
        · exact (hc i h1 (by omega)).nu m1 hs1
      rcases ih (j + 1) kf tf M1 s1 q1 S1 (by omega) (by omega) (by omega) (by omega) h1 g1 p1 (by rw [(f1 146 rfl).2.2.1]; exact hF) (by rw [(f1 147 rfl).2.2.1]; exact hR) hc2 (hp.add oc1 (c := 2) (i := j) a1 f1 (by decide) (by decide) (by omega) (Or.inr (Or.inr (Or.inl ⟨rfl, by omega⟩)))) with ⟨M', w, s', v1, v2, v3⟩ | ⟨M', s', q', S', v1, v2, v3, v4⟩
      · exact Or.inl ⟨M', w, s', v1, v2, v3.pre bt1.2.2.2.1⟩
      · exact Or.inr ⟨M', s', q', S', v1, v2, np1.tr v3, v4⟩
/-- relations of whens -/
theorem z_nWh {Fw : Nat → Nat} (hw : (∀ k, k < Wn → Fw k ≤ Fw (k + 1)) ∧ Fw Wn = A) : ∀ (m j kf tf : Nat) (M : CM) (σ : TS) (q : Nat) (S : Nat → Prop), j + m = Wn → m < kf → m < tf → BS 1 z7 C B P mss fss V I Bm Lp x3 D M σ K N E A Wn → NQ D K M σ q S → tI σ 140 = nI 0 → (∀ k, k < j → CvW D M σ S k) → (∀ k, k < Wn → tA σ 146 k = nI (Fw k) ∧ tA σ 147 k = nI (Fw (k + 1) - Fw k)) → SdP E E (Fw j) j σ N S →
    (∃ M' w s', KL_X0_numberRelations_54 kf (nI j) M = some (.inr (.inr w), M') ∧ L_numberAll_45 tf (nI j) σ = some ((), s') ∧ FfB C B P mss fss M M' σ s' w) ∨
    ∃ M' s' q' S', KL_X0_numberRelations_54 kf (nI j) M = some (.inl (), M') ∧ L_numberAll_45 tf (nI j) σ = some ((), s') ∧ NP 1 z7 C B P mss fss V I Bm Lp x3 D K N E A Wn M σ S M' s' q' S' ∧ ∀ k, k < Wn → CvW D M' s' S' k := by
  have hFU : 400 < FU := by unfold FU; decide
  intro m
  induction m with
  | zero =>
    intro j kf tf M σ q S hj hk ht h g h140 hc hf hp
    obtain ⟨kf, rfl⟩ : ∃ g, kf = g + 1 := ⟨kf - 1, by omega⟩
    obtain ⟨tf, rfl⟩ : ∃ g, tf = g + 1 := ⟨tf - 1, by omega⟩
    obtain ⟨⟨c1, c2, c3, c4⟩, c5⟩ := h.2.2.2.2.1
    have le : nI (Wn + 1 / 2) ≤ nI j := (bI_le (by omega) (by omega)).mpr (by omega)
    refine Or.inr ⟨M, σ, q, S, ?_, ?_, ⟨h, (BTr.rf h.cn).wk, g, h140, ⟨NuM.rf, Ft.rf _ σ, fun k hk => Or.inl hk⟩, fun k hk => hk⟩, fun k hk => hc k (by omega)⟩
    · unfold KL_X0_numberRelations_54
      rw [c1, ifT le]
    · unfold L_numberAll_45
      rw [c2, ifT le]
  | succ m ih =>
    intro j kf tf M σ q S hj hk ht h g h140 hc hf hp
    obtain ⟨kf, rfl⟩ : ∃ g, kf = g + 1 := ⟨kf - 1, by omega⟩
    obtain ⟨tf, rfl⟩ : ∃ g, tf = g + 1 := ⟨tf - 1, by omega⟩
    obtain ⟨⟨c1, c2, c3, c4⟩, c5⟩ := h.2.2.2.2.1
    have le : ¬ nI (Wn + 1 / 2) ≤ nI j := fun z => by have := (bI_le (by omega) (by omega)).mp z; omega
    have nx : nI j + 1 = nI (j + 1) := nI_addL j 1
    have ij : inb (nI j) 12 := inb_nI' (by omega) (by decide)
    have xj : ix (nI j) = j := ix_nI (by omega)
    have tl : ∀ s : TS, tI s 0 ≠ 0 → ∀ x, L_numberAll_45 tf x s = some ((), s) := fun s hs x => by
      obtain ⟨tf', rfl⟩ : ∃ g, tf = g + 1 := ⟨tf - 1, by omega⟩
      exact t_n45b hs x
    obtain ⟨⟨n1, a1, a2⟩, F, R, -, b2, -, b4, b5⟩ := c5 j (by omega)
    have cA := h.2.2.2.1.1.2.2.1
    have fA : ∀ k, k ≤ Wn → Fw k ≤ A := fun k hk => by
      have : ∀ m, m ≤ Wn → Fw (Wn - m) ≤ A := by
        intro m
        induction m with
        | zero => intro _; exact Nat.le_of_eq hw.2
        | succ m ih2 =>
          intro hm
          have q1 := ih2 (by omega)
          have q2 := hw.1 (Wn - (m + 1)) (by omega)
          rw [show Wn - (m + 1) + 1 = Wn - m by omega] at q2
          omega
      have q := this (Wn - k) (by omega)
      rw [show Wn - (Wn - k) = k by omega] at q
      exact q
    have fj := hf j (by omega)
    have eF : Fw j = F := nIq (fj.1.symm.trans b2) (by have := fA j (by omega); omega) (by omega)
    have eR : Fw (j + 1) = F + R := by
      have q1 := hw.1 j (by omega)
      have q2 := fA (j + 1) (by omega)
      have : Fw (j + 1) - Fw j = R := nIq (fj.2.symm.trans b4) (by omega) (by omega)
      omega
    obtain ⟨⟨w1, w2⟩, w3, w4, w5, w6⟩ := h.wh (show j < Wn by omega) b2 b4 (by omega)
    unfold KL_X0_numberRelations_54 L_numberAll_45
    rw [c1, c2, ifF le, ifF le, w1, ob_some, ifT (Or.inr w2), ifT w2, t_isBad0 h.h0, ob_some, ifT (rfl : (0 : Int32) = 0), ifT ij, xj, a1]
    rcases z_nT h g h140 a2 (h.rtW (by omega) a1) (hp.no h (by decide) (by have := fA j (by omega); omega) (c := 3) (i := j) a1 (Or.inr (Or.inr (Or.inr ⟨rfl, by omega⟩))) (by unfold Slx; omega)) with ⟨M1, w, s1, e1, e2, e3, e4⟩ | ⟨M1, s1, q1, S1, e1, e2, h1, bt1, g1, p1, ⟨m1, f1, r1⟩, hs1, cv1, oc1⟩
    · obtain ⟨b', u1, u2⟩ := t_77b h g h140 (by omega) b2 b4 w5 R F FU s1 rfl (by omega) e4
      rw [e1, obS_inr, e2, ob_some, ifT ij, (e4.1.1 146 rfl).2.2.1, b2, nm_eq, u1, ob_some, nm_eq, tl b' (e4.fr u2).2.1]
      exact Or.inl ⟨M1, w, b', rfl, rfl, e3.f139 u2⟩
    · have np1 : NP 1 z7 C B P mss fss V I Bm Lp x3 D K N E A Wn M σ S M1 s1 q1 S1 := ⟨h1, bt1, g1, p1, ⟨m1, f1, r1⟩, hs1⟩
      have b2' : tA s1 146 j = nI F := by rw [(f1 146 rfl).2.2.1]; exact b2
      have b4' : tA s1 147 j = nI R := by rw [(f1 147 rfl).2.2.1]; exact b4
      obtain ⟨⟨y1, y2⟩, y3, y4, y5, y6⟩ := h1.wh (show j < Wn by omega) b2' b4' (by omega)
      rw [e1, obS_inl, ifT y2, y3, nm_eq, e2, ob_some, ifT ij, b2', nm_eq]
      rcases z_nAc (x := nI j) (show j < Wn by omega) (show j < 12 by omega) (show F + R ≤ 200 by omega) R F FU FU M1 s1 q1 S1 rfl (Nat.le_refl _) (by omega) (by omega) h1 g1 p1 b2' b4' (fun i h1 h2 => by omega) (hp.add oc1 (c := 3) (i := j) a1 f1 (by decide) (by decide) (by omega) (Or.inr (Or.inr (Or.inr ⟨rfl, by omega⟩)))) with ⟨M2, w, s2, u1, u2, u3⟩ | ⟨M2, s2, q2, S2, u1, u2, np, cv2, hp2⟩
      · rw [u1, obS_inr, u2, ob_some, nm_eq, tl s2 u3.ne]
        exact Or.inl ⟨M2, w, s2, rfl, rfl, u3.pre bt1.2.2.2.1⟩
      · have np2 := np1.tr np
        rw [u1, obS_inl, nm_eq, u2, ob_some, nm_eq, nx]
        have hc2 : ∀ k, k < j + 1 → CvW D M2 s2 S2 k := fun k hk => by
          by_cases z : k = j
          · rw [z]
            refine ⟨by rw [np2.2.2.2.2.1.1.2.2]; exact ((cv1.nu m1).nu np.2.2.2.2.1.1).mono np.2.2.2.2.2, fun c d e1 e2 hh i h1 h2 => ?_⟩
            have f2 := np.2.2.2.2.1.2.1
            rw [(f2 146 rfl).2.2.1] at e1
            rw [(f2 147 rfl).2.2.1] at e2
            have t1 : F = c := (bI_eq (by omega) (by omega)).mp (b2'.symm.trans e1)
            have t2 : R = d := (bI_eq (by omega) (by omega)).mp (b4'.symm.trans e2)
            exact cv2 i (by omega) (by omega)
          · exact (hc k (by omega)).nu np2.2.2.2.2.1.1 np2.2.2.2.2.1.2.1 np2.2.2.2.2.2
        rcases ih (j + 1) kf tf M2 s2 q2 S2 (by omega) (by omega) (by omega) np2.1 np2.2.2.1 np2.2.2.2.1 hc2 (fun k hk => by rw [(np2.2.2.2.2.1.2.1 146 rfl).2.2.1, (np2.2.2.2.2.1.2.1 147 rfl).2.2.1]; exact hf k hk) (by rw [eR]; exact hp2) with ⟨M', w, s', v1, v2, v3⟩ | ⟨M', s', q', S', v1, v2, v3, v4⟩
        · exact Or.inl ⟨M', w, s', v1, v2, v3.pre np2.2.1.2.2.2.1⟩
        · exact Or.inr ⟨M', s', q', S', v1, v2, np2.tr v3, v4⟩
/-- K_X0_numberRelations and F_numberAll -/
theorem z_numbers (h : BS 1 z7 C B P mss fss V I Bm Lp x3 D M σ K N E A Wn) (h41 : mI M 41 1 = nI 0) (h154 : tI σ 154 = nI 0) (h140 : tI σ 140 = nI 0) (hw : ∃ F : Nat → Nat, F 0 = 0 ∧ F Wn = A ∧ ∀ k, k < Wn → tA σ 146 k = nI (F k) ∧ F k ≤ F (k + 1) ∧ tA σ 147 k = nI (F (k + 1) - F k)) :
    (∃ M' w s', K_X0_numberRelations M = some (.inr w, M') ∧ F_numberAll σ = some ((), s') ∧ FfB C B P mss fss M M' σ s' w) ∨
    ∃ M' s' q' S', K_X0_numberRelations M = some (.inl (), M') ∧ F_numberAll σ = some ((), s') ∧ NP 1 z7 C B P mss fss V I Bm Lp x3 D K N E A Wn M σ (fun _ => False) M' s' q' S' ∧ (∀ k, k < E → CvE D M' S' k) ∧ ∀ k, k < Wn → CvW D M' s' S' k := by
  have hFU : 400 < FU := by unfold FU; decide
  have cE := h.2.2.1.1.2.2.1
  have cW := h.2.2.2.2.1.1.2.2.1
  have g0 : NQ D K M σ 0 (fun _ => False) := ⟨⟨h41, h154, by decide⟩, fun j hj => absurd hj (Nat.not_lt_zero _), fun k hk => hk.elim⟩
  obtain ⟨Fw, w0, w1, w2⟩ := hw
  unfold K_X0_numberRelations F_numberAll
  rcases z_nEq (by decide) E 0 FU FU M σ 0 (fun _ => False) (by omega) (by omega) (by omega) h g0 h140 (fun k hk => absurd hk (Nat.not_lt_zero _)) (fun k hk => hk.elim) with ⟨M1, w, s1, e1, e2, e3⟩ | ⟨M1, s1, q1, S1, e1, e2, np1, cv1, hp1⟩
  · left
    obtain ⟨g', hg'⟩ : ∃ g, FU = g + 1 := ⟨FU - 1, by omega⟩
    have tl : L_numberAll_45 FU 0 s1 = some ((), s1) := by rw [hg']; exact t_n45b e3.ne 0
    refine ⟨M1, w, s1, ?_, ?_, e3⟩
    · rw [show (0 : Int32) = nI 0 from rfl, e1, obS_inr]
    · rw [show L_numberAll_2 FU 0 σ = some ((), s1) from e2, ob_some]
      unfold J_numberAll_43
      rw [tl, ob_some]
  · rw [show (0 : Int32) = nI 0 from rfl, e1, obS_inl, e2, ob_some]
    unfold J_numberAll_43
    rw [show (0 : Int32) = nI 0 from rfl]
    rcases z_nWh (Fw := Fw) ⟨fun k hk => (w2 k hk).2.1, w1⟩ Wn 0 FU FU M1 s1 q1 S1 (by omega) (by omega) (by omega) np1.1 np1.2.2.1 np1.2.2.2.1 (fun k hk => absurd hk (Nat.not_lt_zero _)) (fun k hk => by rw [(np1.2.2.2.2.1.2.1 146 rfl).2.2.1, (np1.2.2.2.2.1.2.1 147 rfl).2.2.1]; exact ⟨(w2 k hk).1, (w2 k hk).2.2⟩) (by rw [w0]; exact hp1) with ⟨M2, w, s2, u1, u2, u3⟩ | ⟨M2, s2, q2, S2, u1, u2, np2, cv2⟩
    · rw [u1, obS_inr, u2, ob_some]
      exact Or.inl ⟨M2, w, s2, rfl, rfl, u3.pre np1.2.1.2.2.2.1⟩
    · rw [u1, obS_inl, u2, ob_some]
      exact Or.inr ⟨M2, s2, q2, S2, rfl, rfl, np1.tr np2, fun k hk => (cv1 k hk).nu np2.2.2.2.2.1.1 np2.2.2.2.2.2, cv2⟩
end NUMBER8
