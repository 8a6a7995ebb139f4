/-! Layer B: running: whether a relation differs, both sides -/
set_option maxRecDepth 100000
abbrev dfT : List Nat := [0, 1, 170, 171]
section DIFFERS
variable {pq : Bool} {C : PC} {B : Nat} {P : Nat → Prop} {mss fss : List Nat} {V U S q A Wn K1 K2 N e r w v u b n i j k m kf tf h : Nat} {D : FQ} {M M' M1 : CM} {σ σ' s : TS} {x x1 x2 x3 y z y1 y2 y3 : Int32}
theorem t_dF (hs : tI s 0 ≠ 0) {f : Nat} : L_differs_2 (f + 1) y s = some (.inl (), s) := by
  rw [L_differs_2]
  by_cases z : tI s 154 ≤ y
  · rw [ifT z]
  · rw [ifF z, t_isBad1 hs, ob_some, ifF (show ¬ (1 : Int32) = 0 by decide)]
theorem df_loop : ∀ (m r kf tf : Nat) (M : CM) (σ : TS), r + m = q → m + 1 < kf → m + 1 < tf → RnW C B P mss fss V U S q A Wn K1 K2 N D M σ → VaE 0 V U Wn D M σ →
    RsO pq fbI [] [] dfT 1 V D M σ (fun a b M' σ' => ((a = .inl 0 ∧ b = .inl ()) ∨ (a = .inl 1 ∧ b = .inr 1)) ∧ RnW C B P mss fss V U S q A Wn K1 K2 N D M' σ' ∧ VaE 0 V U Wn D M' σ') (KL_X0_differs_9 kf 0 (nI r) M) (L_differs_2 tf (nI r) σ) := by
  intro m
  induction m with
  | zero =>
    intro r kf tf M σ e hk ht w d
    obtain ⟨kf, rfl⟩ : ∃ g, kf = g + 1 := ⟨kf - 1, by omega⟩
    obtain ⟨tf, rfl⟩ : ∃ g, tf = g + 1 := ⟨tf - 1, by omega⟩
    obtain ⟨⟨-, -, -, -, q24, -⟩, -, -, ⟨h41, h154⟩, -⟩ := w.st
    have t1 : mI M 41 1 ≤ nI r := by rw [h41, bI_le (by omega) (by omega)]; omega
    have t2 : tI σ 154 ≤ nI r := by rw [h154, bI_le (by omega) (by omega)]; omega
    exact Or.inr ⟨.inl 0, .inl (), M, σ, by rw [KL_X0_differs_9, ifT t1], by rw [L_differs_2, ifT t2], RsK.rf, Or.inl ⟨rfl, rfl⟩, w, d⟩
  | succ m ih =>
    intro r kf tf M σ e hk ht w d
    obtain ⟨kf, rfl⟩ : ∃ g, kf = g + 2 := ⟨kf - 2, by omega⟩
    obtain ⟨tf, rfl⟩ : ∃ g, tf = g + 2 := ⟨tf - 2, by omega⟩
    obtain ⟨⟨-, -, -, -, q24, -⟩, -, -, ⟨h41, h154⟩, -⟩ := w.st
    have t1 : ¬ mI M 41 1 ≤ nI r := by rw [h41, bI_le (by omega) (by omega)]; omega
    have t2 : ¬ tI σ 154 ≤ nI r := by rw [h154, bI_le (by omega) (by omega)]; omega
    have ir : inb (nI r) 24 := inb_nI' (by omega) (by decide)
    have xr : ix (nI r) = r := ix_nI (by omega)
    have n94 : dfT.contains 94 = false := rfl
    have h0 := d.1.1
    obtain ⟨m0, ⟨m7, m1⟩, km, mm⟩ := w.rv d (show r < q by omega)
    have im : inb (nI m0) 70000 := inb_nI' m7 (by decide)
    have xm : ix (nI m0) = m0 := ix_nI (by omega)
    rw [show kf + 2 = kf + 1 + 1 from rfl, show tf + 2 = tf + 1 + 1 from rfl, KL_X0_differs_9, ifF t1, ifT (rfl : (0 : Int32) = 0), ifT ir, xr, ifT km, L_differs_2, ifF t2, t_isBad0 h0, ob_some, ifT (rfl : (0 : Int32) = 0), ifT ir, xr, m1, ifT im, xm]
    rcases mm with ⟨k1, k2, -⟩ | ⟨k1, k2, lv⟩
    · rw [ifT k1, ifT k2, ifT ir, nm_eq, nm_eq, p1n]
      exact ih (r + 1) (kf + 1) (tf + 1) M σ (by omega) (by omega) (by omega) w d
    · rw [ifF k2, ifF (show ¬ tA σ 121 m0 = 24 by rw [k1]; decide), ifT ir, ifT ir]
      refine RsO.seq n94 (lv.fo (pq := pq) (I := []) (A := []) (T := dfT) (by decide) d.2.2.2.2.1.2 w.lt.1 w.lt.2) (fun wx M' σ' y k3 k4 fo => ?_) (fun a b M' σ' k3 k4 g ⟨g1, g2, g3, v, g4, g5⟩ => ?_)
      · refine ⟨by rw [k3, obS_inr], .inl (), σ', ?_, Ft.rf _ σ', rfl, rfl, rfl, rfl⟩
        have ne : tI σ' 0 ≠ 0 := fo.ne
        rw [k4, ob_some, ifT ir]
        by_cases z : y = tA σ' 163 r
        · rw [ifT z, nm_eq, t_dF ne]
        · rw [ifF z, t_isBad1 ne, ob_some, ifF (show ¬ (1 : Int32) = 0 by decide), nm_eq, t_dF ne]
      · have g5 : v = b := g5
        subst g1; subst g4; subst g5
        have d1 := d.ev g2 g3
        have w1 := w.vk (RsK.vv g2) d1.1.1
        have e148 : mA M' 148 r = tA σ' 163 r := (d1.2.2.2.1 r (by omega) (by rw [(g2 154 rfl).1, h154, bI_lt (by omega) (by omega)]; omega)).1
        rw [k3, k4, obS_inl, ob_some, ifT ir, ifT ir, e148]
        by_cases z : v = tA σ' 163 r
        · rw [ifT z, ifT z, nm_eq, nm_eq, p1n]
          exact ih (r + 1) (kf + 1) (tf + 1) M' σ' (by omega) (by omega) (by omega) w1 d1
        · rw [ifF z, ifF z, nm_eq, p1n, t_isBad0 d1.1.1, ob_some, ifT (rfl : (0 : Int32) = 0), KL_X0_differs_9]
          refine Or.inr ⟨.inl 1, .inr 1, M', σ', ?_, rfl, RsK.rf, Or.inr ⟨rfl, rfl⟩, w1, d1⟩
          by_cases z2 : mI M' 41 1 ≤ nI (r + 1)
          · rw [ifT z2]
          · rw [ifF z2, ifF (show ¬ (1 : Int32) = 0 by decide)]
/-- the flag of how relations are looked at -/
theorem fl86 (w : RnW C B P mss fss V U S q A Wn K1 K2 N D M σ) (d : VaX V U Wn D M σ) (x : Int32) (hx : x = 0 ∨ x = 1) : RsK [86] [] dfT V D M σ (msI M 86 1 x) σ ∧ RnW C B P mss fss V U S q A Wn K1 K2 N D (msI M 86 1 x) σ ∧ VaE x V U Wn D (msI M 86 1 x) σ := by
  have k4 : KF D [86] [] [] [] M (msI M 86 1 x) := KF.rf.wI rfl TZ.one
  have g4 : RsK [86] [] dfT V D M σ (msI M 86 1 x) σ := ⟨k4, Ft.rf _ _, PaK.of k4 rfl⟩
  have x4 : VaX V U Wn D (msI M 86 1 x) σ := d.up k4 (Ft.rf [] σ) (by decide) (by decide) (by decide)
  refine ⟨g4, w.vk (g4.mono (by decide) (by decide) (by decide)) d.1, x4.ve ?_⟩
  rw [mI_msI, ifT ⟨rfl, rfl⟩]
  rcases hx with rfl | rfl
  · exact Or.inr ⟨by decide, rfl⟩
  · exact Or.inl ⟨rfl, by decide⟩
theorem z_differs (w : RnW C B P mss fss V U S q A Wn K1 K2 N D M σ) (d : VaX V U Wn D M σ) : RsO pq (fun w => (.inr w : Int32 ⊕ Nat)) [86] [] dfT 1 V D M σ (fun a b M' σ' => (a = .inl b ∧ (b = 0 ∨ b = 1)) ∧ RnW C B P mss fss V U S q A Wn K1 K2 N D M' σ' ∧ VaE 1 V U Wn D M' σ') (K_X0_differs M) (F_differs σ) := by
  obtain ⟨⟨-, -, -, -, q24, -⟩, -⟩ := w.st
  have fu : 1000 < FU := by unfold FU; decide
  have n94 : dfT.contains 94 = false := rfl
  obtain ⟨g1, w1, d1⟩ := fl86 w d 0 (Or.inl rfl)
  unfold K_X0_differs F_differs
  rw [nm_eq]
  refine RsO.pre g1 n94 ?_
  refine RsO.seq n94 ((df_loop (pq := pq) q 0 FU FU _ σ (by omega) (by omega) (by omega) w1 d1).mono (I' := [86]) (A' := []) (T' := dfT) (nb' := 1) (by decide) (by decide) (by decide) (Nat.le_refl _)) (fun wx M' σ' y k3 k4 fo => ?_) (fun a b M' σ' k3 k4 g ⟨ab, w2, d2⟩ => ?_)
  · change KL_X0_differs_9 FU 0 0 _ = _ at k3
    change L_differs_2 FU 0 σ = _ at k4
    rw [k3, k4, obS_inr]
    cases y with
    | inl y => rw [obS_inl]; exact ⟨rfl, _, σ', rfl, Ft.rf _ σ', rfl, rfl, rfl, rfl⟩
    | inr y => rw [obS_inr]; exact ⟨rfl, _, σ', rfl, Ft.rf _ σ', rfl, rfl, rfl, rfl⟩
  · change KL_X0_differs_9 FU 0 0 _ = _ at k3
    change L_differs_2 FU 0 σ = _ at k4
    obtain ⟨g2, w3, d3⟩ := fl86 w2 d2.vx 1 (Or.inr rfl)
    rcases ab with ⟨rfl, rfl⟩ | ⟨rfl, rfl⟩
    · rw [k3, k4, obS_inl, obS_inl, nm_eq]
      exact Or.inr ⟨.inl 0, 0, _, σ', rfl, rfl, g2, ⟨rfl, Or.inl rfl⟩, w3, d3⟩
    · rw [k3, k4, obS_inl, obS_inr, nm_eq]
      exact Or.inr ⟨.inl 1, 1, _, σ', rfl, rfl, g2, ⟨rfl, Or.inr rfl⟩, w3, d3⟩
end DIFFERS
