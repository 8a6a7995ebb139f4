/-! Layer B: running: back and forth, both sides -/
set_option maxRecDepth 100000
abbrev bsI : List Nat := [85, 86, 90, 3213, 3214, 3804]
abbrev bsA : List Nat := [124, 125, 148, 149, 150, 158, 159, 160, 161, 162]
abbrev bsT : List Nat := [0, 1, 163, 165, 166, 167, 168, 169, 170, 171, 222, 225, 226, 235, 240, 241, 242, 243, 244]
/-- both sides inside a step, with what was kept -/
def BsS (C : PC) (B : Nat) (P : Nat → Prop) (mss fss : List Nat) (V U S q A Wn K1 K2 N : Nat) (D : FQ) (t0 : Nat) (M : CM) (σ : TS) : Prop := RnW C B P mss fss V U S q A Wn K1 K2 N D M σ ∧ VaX V U Wn D M σ ∧ KeR 0 V U Wn D M σ ∧ tA σ 232 0 = nI t0 ∧ ∃ k, k ≤ 3 ∧ mI M 93 1 = nI k ∧ tI σ 223 = nI k
section BISECT
variable {pq : Bool} {C C' : PC} {B : Nat} {P : Nat → Prop} {mss fss : List Nat} {V U S q A Wn K1 K2 N e r w v u b n i j k a m kf tf h wo nb t0 : Nat} {D : FQ} {M M' M1 : CM} {σ σ' s : TS} {x x1 x2 x3 y z y1 y2 y3 : Int32} {I A0 T : List Nat}
theorem BsS.up (p : BsS C B P mss fss V U S q A Wn K1 K2 N D t0 M σ) (g : RsK bsI bsA bsT V D M σ M' σ') (w : RnW C B P mss fss V U S q A Wn K1 K2 N D M' σ') (d : VaX V U Wn D M' σ') : BsS C B P mss fss V U S q A Wn K1 K2 N D t0 M' σ' := by
  obtain ⟨-, -, ke, ht, k, k1, k2, k3⟩ := p
  exact ⟨w, d, ke.up g rfl (by decide) (by decide), (g.2.1 232 rfl).2.2.1 0 ▸ ht, k, k1, (g.1.i rfl 1).trans k2, (g.2.1 223 rfl).1.trans k3⟩
/-- both go back -/
theorem BsS.bk (p : BsS C B P mss fss V U S q A Wn K1 K2 N D t0 M σ) : ∃ M' σ', K_X0_back M = some ((), M') ∧ F_back 0 σ = some ((), σ') ∧ RsK bsI bsA bsT V D M σ M' σ' ∧ BsS C B P mss fss V U S q A Wn K1 K2 N D t0 M' σ' ∧ tI σ' 165 = nI t0 := by
  obtain ⟨w, d, ke, ht, hk⟩ := id p
  obtain ⟨⟨V96, V98, U180, -, q24, -⟩, ⟨h15, h107⟩, ⟨-, h197⟩, ⟨-, h154⟩, ⟨⟨h39, h148⟩, W12, Wl⟩, -⟩ := w.st
  obtain ⟨M', σ', a1, a2, g, a3⟩ := z_goback w.1 ⟨V98, V96⟩ ⟨Wl, W12⟩ U180 q24 h15 h39 h197 h107 h154 h148 ke
  obtain ⟨σ2, b1, -, b2, -⟩ := t_back U180 V96 q24 W12 0 (by omega) h197 h107 h154 h148
  have es : σ2 = σ' := by
    have := b1.symm.trans a2
    cases this; rfl
  subst es
  have g' : RsK bsI bsA bsT V D M σ M' σ2 := g.mono (by decide) (by decide) (by decide)
  have h0 : tI σ2 0 = 0 := (g.2.1 0 rfl).1.trans d.1
  have w' := w.kf g'.1 (by decide) (by decide) g'.2.1 (by decide) h0 g'.2.2
  have d' : VaX V U Wn D M' σ2 := ⟨h0, a3, (g.2.1 171 rfl).1.trans d.2.2.1, by rw [g.1.i rfl, (g.2.1 222 rfl).1]; exact d.2.2.2⟩
  exact ⟨M', σ2, a1, a2, g', p.up g' w' d', b2.trans ht⟩
/-- a step from there -/
theorem BsS.st (p : BsS C B P mss fss V U S q A Wn K1 K2 N D t0 M σ) (h : Int32) : RsO true fbU bsI bsA bsT 2 V D M σ (fun x _ M' σ' => x = .inl () ∧ BsS C B P mss fss V U S q A Wn K1 K2 N D t0 M' σ' ∧ tI σ' 165 = tI σ 165 + h) (K_X0_step h M) (F_step h σ) := by
  have := (z_mkStep p.1 p.2.1 p.2.2.2.2 h).mono (I' := bsI) (A' := bsA) (T' := bsT) (nb' := 2) (by decide) (by decide) (by decide) (Nat.le_refl _)
  exact this.im (fun x b M' σ' g ⟨g1, ⟨g2, g3⟩, g4⟩ => ⟨g1, p.up g g2 g3.vx, by rw [← g3.1.2.1, g4, p.2.1.2.1.1]⟩)
/-- whether a relation differs there -/
theorem BsS.df (p : BsS C B P mss fss V U S q A Wn K1 K2 N D t0 M σ) : RsO true (fun w => (.inr w : Int32 ⊕ Nat)) bsI bsA bsT 2 V D M σ (fun a b M' σ' => (a = .inl b ∧ (b = 0 ∨ b = 1)) ∧ BsS C B P mss fss V U S q A Wn K1 K2 N D t0 M' σ' ∧ tI σ' 165 = tI σ 165) (K_X0_differs M) (F_differs σ) := by
  have := ((z_differs (pq := true) p.1 p.2.1).im (Q2 := fun a b M' σ' => ((a = .inl b ∧ (b = 0 ∨ b = 1)) ∧ RnW C B P mss fss V U S q A Wn K1 K2 N D M' σ' ∧ VaE 1 V U Wn D M' σ') ∧ tI σ' 165 = tI σ 165) (fun x b M' σ' g z => ⟨z, (g.2.1 165 rfl).1⟩)).mono (I' := bsI) (A' := bsA) (T' := bsT) (nb' := 2) (by decide) (by decide) (by decide) (by decide)
  exact this.im (fun x b M' σ' g ⟨⟨g1, g2, g3⟩, g4⟩ => ⟨g1, p.up g g2 g3.vx, g4⟩)
theorem t_68B (hs : tI s 0 ≠ 0) {f : Nat} : L_oneStep_68 (f + 1) x1 x2 x3 s = some (x3, s) := by
  rw [L_oneStep_68]
  by_cases z : x3 - x2 ≤ 1
  · rw [ifT z]
  · rw [ifF z, t_isBad1 hs, ob_some, ifF (show ¬ (1 : Int32) = 0 by decide)]
/-- halves -/
theorem bs_loop (x1 : Int32) (hm : m ≤ 6553600) : ∀ (d lo hi kf tf : Nat) (M : CM) (σ : TS), hi - lo ≤ d → lo < hi → hi ≤ m → d < kf → d + 1 < tf → BsS C B P mss fss V U S q A Wn K1 K2 N D t0 M σ →
    RsO true fb3 bsI bsA bsT 2 V D M σ (fun a b M' σ' => (∃ h', a = .inl (nI h') ∧ b = nI h' ∧ 1 ≤ h' ∧ h' ≤ m) ∧ BsS C B P mss fss V U S q A Wn K1 K2 N D t0 M' σ') (KL_X0_oneStep_72 kf (nI lo) (nI hi) M) (L_oneStep_68 tf x1 (nI lo) (nI hi) σ) := by
  intro d
  induction d with
  | zero => intro lo hi kf tf M σ h1 h2; omega
  | succ d ih =>
    intro lo hi kf tf M σ h1 h2 h3 hk ht p
    obtain ⟨kf, rfl⟩ : ∃ g, kf = g + 1 := ⟨kf - 1, by omega⟩
    obtain ⟨tf, rfl⟩ : ∃ g, tf = g + 2 := ⟨tf - 2, by omega⟩
    have n94 : bsT.contains 94 = false := rfl
    have es : nI hi - nI lo = nI (hi - lo) := nI_sub (by omega)
    rw [KL_X0_oneStep_72, show tf + 2 = tf + 1 + 1 from rfl, L_oneStep_68, es]
    by_cases z : hi - lo ≤ 1
    · have t : nI (hi - lo) ≤ 1 := by rw [show (1 : Int32) = nI 1 from rfl, bI_le (by omega) (by decide)]; exact z
      rw [ifT t, ifT t]
      exact Or.inr ⟨_, _, M, σ, rfl, rfl, RsK.rf, ⟨hi, rfl, rfl, by omega, h3⟩, p⟩
    · have t : ¬ nI (hi - lo) ≤ 1 := by rw [show (1 : Int32) = nI 1 from rfl, bI_le (by omega) (by decide)]; exact z
      have em : (nI lo + nI hi) / 2 = nI ((lo + hi) / 2) := by rw [bI_add, show (2 : Int32) = nI 2 from rfl, nI_div (by omega) (by decide)]
      obtain ⟨M1, σ1, a1, a2, g1, p1, -⟩ := p.bk
      rw [ifF t, ifF t, t_isBad0 p.2.1.1, ob_some, ifT (rfl : (0 : Int32) = 0), nm_eq, nm_eq, em, a1, a2, ob_some, ob_some]
      refine RsO.pre g1 n94 ?_
      refine RsO.seq n94 (p1.st (nI ((lo + hi) / 2))) (fun wx M' σ' y k1 k2 fo => ?_) (fun a b M' σ' k1 k2 g ⟨g2, p2, _⟩ => ?_)
      · refine ⟨by rw [k1, obS_inr], nI hi, σ', ?_, Ft.rf _ _, rfl, rfl, rfl, rfl⟩
        rw [k2, ob_some, t_isBad1 fo.ne, ob_some, ifF (show ¬ (1 : Int32) = 0 by decide), ifT (rfl : (0 : Int32) = 0), t_68B fo.ne]
      subst g2
      rw [k1, k2, obS_inl, ob_some, t_isBad0 p2.2.1.1, ob_some, ifT (rfl : (0 : Int32) = 0)]
      refine RsO.seq n94 p2.df (fun wx M2 σ2 y k3 k4 fo => ?_) (fun a b M2 σ2 k3 k4 g3 ⟨⟨g4, hb⟩, p3, _⟩ => ?_)
      · by_cases y0 : y = 0
        · refine ⟨by rw [k3, obS_inr], nI hi, σ2, ?_, Ft.rf _ _, rfl, rfl, rfl, rfl⟩
          rw [k4, ob_some, ifT y0, ifT (rfl : (0 : Int32) = 0), t_68B fo.ne]
        · refine ⟨by rw [k3, obS_inr], nI ((lo + hi) / 2), σ2, ?_, Ft.rf _ _, rfl, rfl, rfl, rfl⟩
          rw [k4, ob_some, ifF y0, ifF (show ¬ (1 : Int32) = 0 by decide), t_68B fo.ne]
      subst g4
      rw [k3, k4, obS_inl, ob_some]
      by_cases b0 : b = 0
      · rw [ifT b0, ifT b0, ifT (rfl : (0 : Int32) = 0)]
        exact ih _ hi kf (tf + 1) M2 σ2 (by omega) (by omega) h3 (by omega) (by omega) p3
      · rw [ifF b0, ifF b0, ifF (show ¬ (1 : Int32) = 0 by decide)]
        exact ih lo _ kf (tf + 1) M2 σ2 (by omega) (by omega) (by omega) (by omega) (by omega) p3
end BISECT
