/-! Layer B: the flat model: connect, both sides -/
set_option maxRecDepth 100000
section CONN2
variable {zb : Nat} {C : PC} {D D' D1 D2 : FQ} {M M' M1 M2 M3 M0 : CM} {σ σ' σ1 σ2 σ0 s1 s8 : TS} {mss fss : List Nat} {B V I Bm K N K' N' E A Wn E' A' Wn' v l k x0 dc md X N0 Lp w d s o n i nf R a b n1 n2 f g h1 h2 j eq : Nat} {P T : Nat → Prop} {x3 x3' x y r : Int32} {z7 : Nat → Nat} {S : List Nat}
theorem mss_ne (W : FW C B P mss fss D M σ) {k k' : Nat} (hk : k < mss.length) (hk' : k' < mss.length) (e : mss.getD k 0 = mss.getD k' 0) : k = k' := by
  have hp := W.1.2.2.2.2.2.1.2.2.2
  have g : ∀ j, (hj : j < mss.length) → mss.getD j 0 = mss[j] := fun j hj => by rw [List.getD_eq_getElem?_getD, List.getElem?_eq_getElem hj]; rfl
  rw [g k hk, g k' hk'] at e
  rcases Nat.lt_trichotomy k k' with q | q | q
  · have := List.pairwise_iff_getElem.mp hp k k' hk hk' q
    omega
  · exact q
  · have := List.pairwise_iff_getElem.mp hp k' k hk' hk q
    omega
theorem t_conB (h : tI σ 0 ≠ 0) (x y : Int32) : J_connect_25 x y σ = some ((), σ) := by
  unfold J_connect_25
  rw [t_isBad1 h, ob_some, ifF (show ¬ (1 : Int32) = 0 by decide)]
theorem z_connect (hB1 : B ≤ 1280) (hi : i < I) (h : BS zb z7 C B P mss fss V I Bm Lp x3 D M σ K N E A Wn) (ke : P eq ∧ mk M eq = 13) (R1 : RfP C P M σ (mR M 2401 eq) x) (R2 : RfP C P M σ (mR M 2402 eq) y) : BO (β := Unit) zb z7 C B P mss fss V I Bm Lp x3 id D M σ K N E A Wn (K_X0_connect ((pl D 99).getD i 0) eq M) (F_connect x y (nI i) σ) := by
  unfold K_X0_connect F_connect
  rw [ifT ke.2]
  rcases z_face hB1 hi h R1 with ⟨M1, σ1, w, a1, a2, g⟩ | ⟨M1, σ1, f1, ⟨f1a, f1b, f1c⟩, a1, a2, hS1, bt1⟩
  · rw [a1, obS_inr, a2, ob_some, t_isBad1 g.ne, ob_some, ifF (show ¬ (1 : Int32) = 0 by decide)]
    exact Or.inl ⟨M1, σ1, w, (), rfl, t_conB g.ne _ _, g⟩
  · have se := bt1.1.2.1.1 eq ke.1
    have k1 : mk M1 eq = 13 := by rw [se.k]; exact ke.2
    have R2' := R2.wz bt1.1 (fun _ z => z)
    rw [← se.r] at R2'
    rw [a1, obS_inl, ifT k1, a2, ob_some, t_isBad0 hS1.h0, ob_some, ifT (rfl : (0 : Int32) = 0)]
    refine BO.pre bt1 ⟨Nat.le_refl _, Nat.le_refl _, Nat.le_refl _, Nat.le_refl _, Nat.le_refl _⟩ ?_
    rcases z_face hB1 hi hS1 R2' with ⟨M2, σ2, w, c1, c2, g⟩ | ⟨M2, σ2, f2, ⟨f2a, f2b, f2c⟩, c1, c2, hS2, bt2⟩
    · rw [c1, obS_inr, c2, ob_some]
      exact Or.inl ⟨M2, σ2, w, (), rfl, t_conB g.ne _ _, g⟩
    · rw [c1, obS_inl, c2, ob_some]
      refine BO.pre bt2 ⟨Nat.le_refl _, Nat.le_refl _, Nat.le_refl _, Nat.le_refl _, Nat.le_refl _⟩ ?_
      unfold J_connect_25
      rw [t_isBad0 hS2.h0, ob_some, ifT (rfl : (0 : Int32) = 0)]
      obtain ⟨b1, b2, b3⟩ := hS2.bad (x4 := 32) (by decide)
      have bk : mk (wM M2 32 0) (mn M2) = 7 := wM_k M2 32 0
      by_cases ef : f1 = f2
      · rw [ef, ifT rfl, ifT rfl, b1, ob_some, ifT bk, b2, ob_some]
        exact Or.inl ⟨_, _, _, (), rfl, rfl, b3⟩
      · have nf : ¬ nI f1 = nI f2 := fun z => ef ((bI_eq (by omega) (by omega)).mp z)
        have I200 := h.fx.2.1.2.1
        have l99 := hS2.fx.1.1.2.1
        obtain ⟨⟨o1, o2, o3⟩, -, -, k, kk1, k24, kk2, kk3, kk4, kk5, -⟩ := hS2.inst f1b
        obtain ⟨⟨p1, p2, p3⟩, -, -, k', kk1', k24', kk2', kk3', kk4', kk5', -⟩ := hS2.inst f2b
        have L99 := (hS2.fw.2.1.1 99 (by decide)).1
        have g1 : K_J2_get 99 (nI (f1 / 2)) M2 = some ((pl D 99).getD (f1 / 2) 0, M2) := ls_get L99 (by omega)
        have g2 : K_J2_get 99 (nI (f2 / 2)) M2 = some ((pl D 99).getD (f2 / 2) 0, M2) := ls_get L99 (by omega)
        rw [ifF nf, ifF nf, n_half f1 f1a, n_half f2 f2a, g1, ob_some, ifT (Or.inr o3), ifT o3, g2, ob_some, ifT (Or.inr p3), ifT p3, kk2, kk2', ifT ⟨kk5, kk5'⟩, ifT (inb_nI' (by omega) (by decide)), ifT (inb_nI' (by omega) (by decide)), ix_nI (by omega), ix_nI (by omega), kk3, kk3']
        by_cases ec : k = k'
        · obtain ⟨h1, q1, q2, q3, qs, -⟩ := z_head hS2.2.2.2.2.2.1.1 f1 f1a
          obtain ⟨h2, u1, u2, u3, us, -⟩ := z_head hS2.2.2.2.2.2.1.1 f2 f2a
          have v5 := bt2.2.2.2.2.2 75 (by decide)
          have sm : SmF σ2 f1 f2 := ⟨by rw [kk3, kk3', ec], by
            rw [f2c, ← f1c]
            unfold cxF
            simp only [v5]⟩
          have sm12 : SmF σ2 h1 h2 := (qs.tr sm).tr us.sy
          rw [ec, ifT rfl, ifT rfl, q2, ob_some, u2, ob_some, q3, ob_some, u3, ob_some]
          by_cases le : h2 ≤ h1
          · have le' : nI h2 ≤ nI h1 := (bI_le (by omega) (by omega)).mpr le
            have m1 : mmax (nI h1) (nI h2) = nI h1 := by
              unfold mmax
              rw [ifF (fun z => by have := (bI_lt (by omega) (by omega)).mp z; omega)]
            have m2 : mmin (nI h1) (nI h2) = nI h2 := by
              unfold mmin
              by_cases z : h2 < h1
              · rw [ifT ((bI_lt (by omega) (by omega)).mpr z)]
              · rw [ifF (fun y => z ((bI_lt (by omega) (by omega)).mp y)), show h1 = h2 by omega]
            obtain ⟨hS3, bt3⟩ := hS2.jn (f := h1) (g := h2) ⟨le, by omega⟩ sm12.sy
            rw [ifT le', ifT le', ifT (inb_nI' (by omega) (by decide)), ix_nI (by omega), nm_eq, m1, m2, ifT (inb_nI' (by omega) (by decide)), ix_nI (by omega), nm_eq]
            exact Or.inr ⟨D, _, _, K, N, E, A, Wn, (), (), rfl, rfl, hS3, ⟨Nat.le_refl _, Nat.le_refl _, Nat.le_refl _, Nat.le_refl _, Nat.le_refl _⟩, bt3⟩
          · have le' : ¬ nI h2 ≤ nI h1 := fun z => le ((bI_le (by omega) (by omega)).mp z)
            have m1 : mmax (nI h1) (nI h2) = nI h2 := by
              unfold mmax
              rw [ifT ((bI_lt (by omega) (by omega)).mpr (by omega))]
            have m2 : mmin (nI h1) (nI h2) = nI h1 := by
              unfold mmin
              rw [ifF (fun z => by have := (bI_lt (by omega) (by omega)).mp z; omega)]
            obtain ⟨hS3, bt3⟩ := hS2.jn (f := h2) (g := h1) ⟨by omega, by omega⟩ sm12
            rw [ifF le', ifF le', ifT (inb_nI' (by omega) (by decide)), ix_nI (by omega), nm_eq, m1, m2, ifT (inb_nI' (by omega) (by decide)), ix_nI (by omega), nm_eq]
            exact Or.inr ⟨D, _, _, K, N, E, A, Wn, (), (), rfl, rfl, hS3, ⟨Nat.le_refl _, Nat.le_refl _, Nat.le_refl _, Nat.le_refl _, Nat.le_refl _⟩, bt3⟩
        · have nc : ¬ mss.getD k 0 = mss.getD k' 0 := fun z => ec (mss_ne hS2.fw kk1 kk1' z)
          have nc' : ¬ nI k = nI k' := fun z => ec ((bI_eq (by omega) (by omega)).mp z)
          rw [ifF nc, ifF nc', b1, ob_some, ifT bk, b2, ob_some]
          exact Or.inl ⟨_, _, _, (), rfl, rfl, b3⟩
end CONN2
