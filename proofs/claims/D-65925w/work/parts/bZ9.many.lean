/-! Layer B: running: the rows of a block's matrix, both sides -/
set_option maxRecDepth 100000
/-- a block: n equations and unknowns from place i0 on -/
def BkR (S U i0 n : Nat) (M : CM) (σ : TS) : Prop := n ≤ 12 ∧ i0 + n ≤ 180 ∧ ∀ t, t < n → ∃ e u, (e < S ∧ tA σ 180 e = 0 ∧ mA M 142 (i0 + t) = nI e ∧ tA σ 211 (i0 + t) = nI e) ∧ u < U ∧ mA M 143 (i0 + t) = nI u ∧ tA σ 212 (i0 + t) = nI u
/-- the matrix so far -/
def MxQ (n i j : Nat) (M : CM) (σ : TS) : Prop := ∀ i' j', (i' < i ∧ j' ≤ n) ∨ (i' = i ∧ j' < j) → mA M 149 (25 * i' + j') = tA σ 225 (181 * i' + j') ∧ (j' < n → -2147483647 ≤ (mA M 149 (25 * i' + j')).toInt)
section MANY
variable {pq : Bool} {C : PC} {B : Nat} {P : Nat → Prop} {mss fss : List Nat} {V U S q A Wn K1 K2 N e r w v u b n i0 i j k : Nat} {D : FQ} {M M' M1 : CM} {σ σ' s : TS} {I0 A0 T : List Nat} {x x2 y : Int32}
theorem BkR.mv (h : BkR S U i0 n M σ) (g : RsK slbI slbA slbT V D M σ M' σ') : BkR S U i0 n M' σ' := by
  obtain ⟨h1, h2, h3⟩ := h
  refine ⟨h1, h2, fun t ht => ?_⟩
  obtain ⟨e, u, ⟨a1, a2, a3, a4⟩, b1, b2, b3⟩ := h3 t ht
  exact ⟨e, u, ⟨a1, (g.2.1 180 rfl).2.2.1 e |>.trans a2, (g.1.ga rfl _).trans a3, ((g.2.1 211 rfl).2.2.1 _).trans a4⟩, b1, (g.1.ga rfl _).trans b2, ((g.2.1 212 rfl).2.2.1 _).trans b3⟩
theorem z_prtE (w : RnW C B P mss fss V U S q A Wn K1 K2 N D M σ) (d : VaE 1 V U Wn D M σ) (he : e < S) (h : tA σ 180 e = 0) : NvE M σ (K_X0_part (mX M 126 e) x M) (F_partial (tA σ 141 e) x σ) ∧ ∀ s, Ft [170, 171] σ s → tI s 171 = nI 0 → NvE M s (K_X0_part (mX M 127 e) x M) (F_partial (tA σ 142 e) x s) := by
  obtain ⟨E, h171⟩ := w.ev d
  obtain ⟨n1, n2, ⟨a1, a2⟩, b1, b2⟩ := w.eq he h
  have h7 : N ≤ 70000 := E.2.2.2.2.2.2.2.2
  refine ⟨?_, fun s f i => ?_⟩
  · rw [a1]; exact z_prt (x2 := x) 200 99 99 σ _ n1 (Nat.le_refl _) E h171 a2
  · rw [b1]; exact z_prt (x2 := x) 200 99 99 s _ n2 (Nat.le_refl _) (E.ft f) i (b2.ft f h7)
theorem t_pF3 (h : tI s 0 ≠ 0) : F_partial x y s = some (0, s) := t_pF (d := 299) h
theorem t_84F (h : tI s 0 ≠ 0) {x2 x3 x4 x5 x6 x7 : Int32} {f : Nat} : L_solveRounds_84 (f + 1) x2 x3 x4 x5 x6 x7 s = some ((), s) := by
  rw [L_solveRounds_84]
  by_cases q : x2 ≤ x7
  · rw [ifT q]
  · rw [ifF q, t_isBad1 h, ob_some, ifF (show ¬ (1 : Int32) = 0 by decide)]
theorem t_37F (h : tI s 0 ≠ 0) {x2 x3 x4 x5 : Int32} {f : Nat} : L_solveRounds_37 (f + 1) x2 x3 x4 x5 s = some ((), s) := by
  rw [L_solveRounds_37]
  by_cases q : x2 ≤ x5
  · rw [ifT q]
  · rw [ifF q, t_isBad1 h, ob_some, ifF (show ¬ (1 : Int32) = 0 by decide)]
theorem t_204F (h : tI s 0 ≠ 0) {x2 x3 x4 x5 : Int32} {f : Nat} : L_solveRounds_204 (f + 1) x2 x3 x4 x5 s = some ((), s) := by
  rw [L_solveRounds_204]
  by_cases q : x2 ≤ x5
  · rw [ifT q]
  · rw [ifF q, t_isBad1 h, ob_some, ifF (show ¬ (1 : Int32) = 0 by decide)]
theorem VaE.wm {g h : Nat} (d : VaE x2 V U Wn D M σ) (x y : Int32) : VaE x2 V U Wn D (mwA M 149 g x) (tsA σ 225 h y) := d.mv ⟨KF.rf.wA rfl ⟨by decide, by decide⟩, (Ft.rf _ σ).p_tsA rfl, fun _ _ _ => rfl⟩ d.1.1 (fun j hj => by
  rw [mA_mwA, tA_tsA, ifF (fun z => by omega), ifF (fun z => by omega)]; exact (d.2.1 j hj).1) d.2.2.2.2.1.1 d.2.2.2.2.1.2
theorem RsK.wm (g h : Nat) (x y : Int32) : RsK slbI slbA slbT V D M σ (mwA M 149 g x) (tsA σ 225 h y) := ⟨KF.rf.wA rfl ⟨by decide, by decide⟩, (Ft.rf _ σ).p_tsA rfl, fun _ _ _ => rfl⟩
theorem MxQ.ev (h : MxQ n i j M σ) (f : Ft [170, 171] σ σ') : MxQ n i j M σ' := fun i' j' z => by rw [(f 225 rfl).2.2.1]; exact h i' j' z
/-- a number at step level, with its range -/
theorem NvO.st' {α β : Type} {pq : Bool} {R : α → β → Prop} {k2 : Option ((α ⊕ Nat) × CM)} {t2 : Option (β × TS)} (h : NvO M σ R k2 t2) (w : RnW C B P mss fss V U S q A Wn K1 K2 N D M σ) (d : VaE x2 V U Wn D M σ) : RsO pq (fun w => (.inr w : α ⊕ Nat)) slbI slbA slbT 1 V D M σ (fun a b M' σ' => M' = M ∧ Ft [170, 171] σ σ' ∧ tI σ' 171 = nI 0 ∧ ∃ v, a = .inl v ∧ R v b) k2 t2 := h.fo (by decide) d.2.2.2.2.1.2 w.lt.1 w.lt.2
/-- a row of partial derivatives -/
theorem sm_row (he : e < S) (hi : i < n) (x1 x7 x4 : Int32) (xn : Int32) : ∀ (m j kf tf : Nat) (M : CM) (σ : TS), j + m = n → m < kf → m + 1 < tf → RnW C B P mss fss V U S q A Wn K1 K2 N D M σ → VaE 1 V U Wn D M σ → BkR S U i0 n M σ → tA σ 180 e = 0 → MxQ n i j M σ → tA σ 225 (181 * i + n) = xn →
    RsO pq fb2 slbI slbA slbT 1 V D M σ (fun a _ M' σ' => a = .inl () ∧ RnW C B P mss fss V U S q A Wn K1 K2 N D M' σ' ∧ VaE 1 V U Wn D M' σ' ∧ BkR S U i0 n M' σ' ∧ MxQ n i n M' σ' ∧ tA σ' 225 (181 * i + n) = xn) (KL_X0_solveMany_69 kf x1 (nI i0) (nI n) x4 (nI i) (nI e) x7 (nI j) M) (L_solveRounds_84 tf (nI n) (nI i0) x4 (nI i) (nI e) (nI j) σ) := by
  intro m
  induction m with
  | zero =>
    intro j kf tf M σ e' hk ht w d bk h180 mx hx
    have n12 := bk.1
    obtain ⟨kf, rfl⟩ : ∃ g, kf = g + 1 := ⟨kf - 1, by omega⟩
    obtain ⟨tf, rfl⟩ : ∃ g, tf = g + 1 := ⟨tf - 1, by omega⟩
    have t : nI n ≤ nI j := (bI_le (by omega) (by omega)).mpr (by omega)
    have ej : j = n := by omega
    subst ej
    exact Or.inr ⟨.inl (), (), M, σ, by rw [KL_X0_solveMany_69, ifT t], by rw [L_solveRounds_84, ifT t], RsK.rf, rfl, w, d, bk, mx, hx⟩
  | succ m ih =>
    intro j kf tf M σ e' hk ht w d bk h180 mx hx
    obtain ⟨n12, in180, bt⟩ := id bk
    obtain ⟨⟨-, -, U180, S180, -, -⟩, -, -, -, -, -, -, -, -, hc⟩ := w.st
    obtain ⟨kf, rfl⟩ : ∃ g, kf = g + 1 := ⟨kf - 1, by omega⟩
    obtain ⟨tf, rfl⟩ : ∃ g, tf = g + 2 := ⟨tf - 2, by omega⟩
    have t : ¬ nI n ≤ nI j := fun z => by have := (bI_le (by omega) (by omega)).mp z; omega
    have e1 : nI j + 1 = nI (j + 1) := by rw [show (1 : Int32) = nI 1 from rfl, bI_add]
    obtain ⟨-, u, -, uU, u1, u2⟩ := bt j (by omega)
    have i24 : i < 24 := by omega
    have j24 : j ≤ 24 := by omega
    have ie1 : inb (nI e) 180 := inb_nI' (by omega) (by decide)
    have ie4 : inb (nI e) 400 := inb_nI' (by omega) (by decide)
    have ij1 : inb (nI (i0 + j)) 180 := inb_nI' (by omega) (by decide)
    have ij4 : inb (nI (i0 + j)) 400 := inb_nI' (by omega) (by decide)
    have xe : ix (nI e) = e := ix_nI (by omega)
    have xj : ix (nI (i0 + j)) = i0 + j := ix_nI (by omega)
    have n94 : slbT.contains 94 = false := rfl
    have h0 := d.1.1
    obtain ⟨pA, pB⟩ := z_prtE (x := nI u) w d he h180
    rw [KL_X0_solveMany_69, ifF t, L_solveRounds_84, ifF t, t_isBad0 h0, ob_some, ifT (rfl : (0 : Int32) = 0), bI_add, m25, m181, ifT ie1, ifT ij1, ifT ie4, ifT ij4, xe, xj, u1, u2]
    refine RsO.seq n94 (pA.st' w d) (fun wx M' σ' y k1 k2 fo => ?_) (fun a b M' σ' k1 k2 g ⟨q1, q2, q3, v, q4, q5⟩ => ?_)
    · refine ⟨by rw [k1, obS_inr], (), tsA σ' 225 (181 * i + j) 0, ?_, (Ft.rf _ σ').p_tsA rfl, rfl, rfl, rfl, rfl⟩
      have ne : tI (tsA σ' 225 (181 * i + j) 0) 0 ≠ 0 := fo.ne
      rw [k2, ob_some, ifT ie4, ifT ij4, t_pF3 fo.ne, ob_some, t_isBad1 fo.ne, ob_some, ifF (show ¬ (1 : Int32) = 0 by decide), ifT (in181 i24 j24), x181 i24 j24, nm_eq, nm_eq, t_84F ne]
    have q5 : v = b := q5
    subst q1; subst q4; subst q5
    have d1 := d.ev q2 q3
    have w1 := w.sl (RsK.ev q2) d1.1.1
    rw [k1, k2, obS_inl, ob_some, ifT ie1, ifT ij1, ifT ie4, ifT ij4, u1, (q2 142 rfl).2.2.1, (q2 212 rfl).2.2.1, u2]
    refine RsO.seq n94 ((pB σ' q2 q3).st' w1 d1) (fun wx M2 σ2 y k3 k4 fo => ?_) (fun a b2 M2 σ2 k3 k4 g2 ⟨p1, p2, p3, v2, p4, p5⟩ => ?_)
    · refine ⟨by rw [k3, obS_inr], (), tsA σ2 225 (181 * i + j) 0, ?_, (Ft.rf _ σ2).p_tsA rfl, rfl, rfl, rfl, rfl⟩
      have ne : tI (tsA σ2 225 (181 * i + j) 0) 0 ≠ 0 := fo.ne
      rw [k4, ob_some, t_isBad1 fo.ne, ob_some, ifF (show ¬ (1 : Int32) = 0 by decide), ifT (in181 i24 j24), x181 i24 j24, nm_eq, nm_eq, t_84F ne]
    have p5 : v2 = b2 := p5
    subst p1; subst p4; subst p5
    have d2 := d1.ev p2 p3
    have w2 := w1.sl (RsK.ev p2) d2.1.1
    rw [k3, k4, obS_inl, ob_some, t_isBad0 d2.1.1, ob_some, ifT (rfl : (0 : Int32) = 0)]
    refine RsO.seq n94 ((n_inr (x := v.toInt64 - v2.toInt64) hc.1 hc.2 d2.1.1 p3).st' w2 d2) (fun wx M3 σ3 y k5 k6 fo => ?_) (fun a b3 M3 σ3 k5 k6 g3 ⟨r1, r2, r3, v3, r4, r5⟩ => ?_)
    · refine ⟨by rw [k5, obS_inr], (), tsA σ3 225 (181 * i + j) y, ?_, (Ft.rf _ σ3).p_tsA rfl, rfl, rfl, rfl, rfl⟩
      have ne : tI (tsA σ3 225 (181 * i + j) y) 0 ≠ 0 := fo.ne
      rw [k6, ob_some, ifT (in181 i24 j24), x181 i24 j24, nm_eq, nm_eq, t_84F ne]
    obtain ⟨r5, r6⟩ : v3 = b3 ∧ -2147483647 ≤ v3.toInt := r5
    subst r1; subst r4; subst r5
    have d3 := d2.ev r2 r3
    have w3 := w2.sl (RsK.ev r2) d3.1.1
    have bk3 := ((bk.mv (V := V) (D := D) (RsK.ev q2)).mv (V := V) (D := D) (RsK.ev p2)).mv (V := V) (D := D) (RsK.ev r2)
    have mx3 := ((mx.ev q2).ev p2).ev r2
    rw [k5, k6, obS_inl, ob_some, ifT (in25 i24 j24), ifT (in181 i24 j24), x25 i24 j24, x181 i24 j24, nm_eq, nm_eq, nm_eq, nm_eq, e1]
    refine RsO.pre (RsK.wm _ _ _ _) n94 (ih (j + 1) kf (tf + 1) _ _ (by omega) (by omega) (by omega) (w3.sl (RsK.wm _ _ _ _) d3.1.1) (d3.wm _ _) (bk3.mv (V := V) (D := D) (RsK.wm _ _ _ _)) ?_ ?_ ?_)
    · rw [tA_tsA, ifF (fun z => by omega), (r2 180 rfl).2.2.1, (p2 180 rfl).2.2.1, (q2 180 rfl).2.2.1]; exact h180
    · intro i' j' z
      rw [mA_mwA, tA_tsA]
      by_cases y : i' = i ∧ j' = j
      · obtain ⟨rfl, rfl⟩ := y
        rw [ifT ⟨rfl, rfl⟩, ifT ⟨rfl, rfl⟩]
        exact ⟨rfl, fun _ => r6⟩
      · have z' : (i' < i ∧ j' ≤ n) ∨ (i' = i ∧ j' < j) := by omega
        have b25 : j' ≤ 24 := by omega
        rw [ifF (fun o => y (by omega)), ifF (fun o => y (by omega))]
        exact mx3 i' j' z'
    · rw [tA_tsA, ifF (fun z => by omega), (r2 225 rfl).2.2.1, (p2 225 rfl).2.2.1, (q2 225 rfl).2.2.1]; exact hx
/-- all rows -/
theorem sm_rows (x1 x4 : Int32) : ∀ (m i kf tf : Nat) (M : CM) (σ : TS), i + m = n → m < kf → m + 1 < tf → RnW C B P mss fss V U S q A Wn K1 K2 N D M σ → VaE 1 V U Wn D M σ → BkR S U i0 n M σ → MxQ n i 0 M σ →
    RsO pq fb2 slbI slbA slbT 1 V D M σ (fun a _ M' σ' => a = .inl () ∧ RnW C B P mss fss V U S q A Wn K1 K2 N D M' σ' ∧ VaE 1 V U Wn D M' σ' ∧ BkR S U i0 n M' σ' ∧ MxQ n n 0 M' σ') (KL_X0_solveMany_41 kf x1 (nI i0) (nI n) x4 (nI i) M) (L_solveRounds_37 tf (nI n) (nI i0) x4 (nI i) σ) := by
  intro m
  induction m with
  | zero =>
    intro i kf tf M σ e' hk ht w d bk mx
    have n12 := bk.1
    obtain ⟨kf, rfl⟩ : ∃ g, kf = g + 1 := ⟨kf - 1, by omega⟩
    obtain ⟨tf, rfl⟩ : ∃ g, tf = g + 1 := ⟨tf - 1, by omega⟩
    have t : nI n ≤ nI i := (bI_le (by omega) (by omega)).mpr (by omega)
    have ei : i = n := by omega
    subst ei
    exact Or.inr ⟨.inl (), (), M, σ, by rw [KL_X0_solveMany_41, ifT t], by rw [L_solveRounds_37, ifT t], RsK.rf, rfl, w, d, bk, mx⟩
  | succ m ih =>
    intro i kf tf M σ e' hk ht w d bk mx
    obtain ⟨n12, in180, bt⟩ := id bk
    have fu : 1000 < FU := by unfold FU; decide
    obtain ⟨F, hF⟩ := fuEx
    obtain ⟨kf, rfl⟩ : ∃ g, kf = g + 1 := ⟨kf - 1, by omega⟩
    obtain ⟨tf, rfl⟩ : ∃ g, tf = g + 2 := ⟨tf - 2, by omega⟩
    have t : ¬ nI n ≤ nI i := fun z => by have := (bI_le (by omega) (by omega)).mp z; omega
    have e1 : nI i + 1 = nI (i + 1) := by rw [show (1 : Int32) = nI 1 from rfl, bI_add]
    obtain ⟨e, -, ⟨eS, e180, e2, e3⟩, -⟩ := bt i (by omega)
    have i24 : i < 24 := by omega
    have n24 : n ≤ 24 := by omega
    have ii1 : inb (nI (i0 + i)) 180 := inb_nI' (by omega) (by decide)
    have ii4 : inb (nI (i0 + i)) 400 := inb_nI' (by omega) (by decide)
    have xi : ix (nI (i0 + i)) = i0 + i := ix_nI (by omega)
    have n94 : slbT.contains 94 = false := rfl
    have h0 := d.1.1
    rw [KL_X0_solveMany_41, ifF t, L_solveRounds_37, ifF t, t_isBad0 h0, ob_some, ifT (rfl : (0 : Int32) = 0), bI_add, m25, m181, ifT ii1, ifT ii4, xi, e2, e3, nm_eq, nm_eq]
    refine RsO.seq n94 ((z_residual w d eS e180).st' w d) (fun wx M' σ' y k1 k2 fo => ?_) (fun a b M' σ' k1 k2 g ⟨q1, q2, q3, v, q4, q5⟩ => ?_)
    · refine ⟨by rw [k1, obS_inr], (), tsA σ' 225 (181 * i + n) (-y), ?_, (Ft.rf _ σ').p_tsA rfl, rfl, rfl, rfl, rfl⟩
      have ne : tI (tsA σ' 225 (181 * i + n) (-y)) 0 ≠ 0 := fo.ne
      rw [k2, ob_some, ifT (in181 i24 n24), x181 i24 n24, nm_eq, hF, t_84F ne, ob_some, nm_eq, t_37F ne]
    have q5 : v = b := q5
    subst q1; subst q4; subst q5
    have d1 := d.ev q2 q3
    have w1 := w.sl (RsK.ev q2) d1.1.1
    have bk1 := bk.mv (V := V) (D := D) (RsK.ev q2)
    have mx1 := mx.ev q2
    rw [k1, k2, obS_inl, ob_some, ifT (in181 i24 n24), x181 i24 n24, nm_eq]
    -- the twin writes the residual first
    have d2 : VaE 1 V U Wn D M' (tsA σ' 225 (181 * i + n) (-v)) := d1.mv ⟨KF.rf, (Ft.rf _ _).p_tsA rfl, fun _ _ _ => rfl⟩ d1.1.1 (fun j hj => by
      rw [tA_tsA, ifF (fun z => by omega)]; exact (d1.2.1 j hj).1) d1.2.2.2.2.1.1 d1.2.2.2.2.1.2
    have g2 : RsK slbI slbA slbT V D M' σ' M' (tsA σ' 225 (181 * i + n) (-v)) := ⟨KF.rf, (Ft.rf _ _).p_tsA rfl, fun _ _ _ => rfl⟩
    have w2 := w1.sl g2 d2.1.1
    refine RsO.pre g2 n94 ?_
    refine RsO.seq n94 (sm_row (i := i) (n := n) (i0 := i0) (xn := -v) eS (by omega) x1 v x4 n 0 FU FU M' _ (by omega) (by omega) (by omega) w2 d2 (bk1.mv (V := V) (D := D) g2) (by rw [tA_tsA, ifF (fun z => by omega), (q2 180 rfl).2.2.1]; exact e180) (fun i' j' z => by
      rw [tA_tsA, ifF (fun o => by omega)]
      exact mx1 i' j' (by omega)) (by rw [tA_tsA, ifT ⟨rfl, rfl⟩])) (fun wx M3 σ3 y k3 k4 fo => ?_) (fun a b3 M3 σ3 k3 k4 g3 ⟨r1, r2, r3, r4, r5, r6⟩ => ?_)
    · change KL_X0_solveMany_69 FU x1 (nI i0) (nI n) x4 (nI i) (nI e) v 0 M' = _ at k3
      change L_solveRounds_84 FU (nI n) (nI i0) x4 (nI i) (nI e) 0 _ = _ at k4
      refine ⟨by rw [k3, obS_inr], (), σ3, ?_, Ft.rf _ σ3, rfl, rfl, rfl, rfl⟩
      rw [k4, ob_some, nm_eq, t_37F fo.ne]
    · subst r1
      change KL_X0_solveMany_69 FU x1 (nI i0) (nI n) x4 (nI i) (nI e) v 0 M' = _ at k3
      change L_solveRounds_84 FU (nI n) (nI i0) x4 (nI i) (nI e) 0 _ = _ at k4
      rw [k3, k4, obS_inl, ob_some, ifT (in25 i24 n24), x25 i24 n24, nm_eq, nm_eq, nm_eq, e1]
      have g4 : RsK slbI slbA slbT V D M3 σ3 (mwA M3 149 (25 * i + n) (-v)) σ3 := ⟨KF.rf.wA rfl ⟨by decide, by decide⟩, Ft.rf _ _, fun _ _ _ => rfl⟩
      have d4 : VaE 1 V U Wn D (mwA M3 149 (25 * i + n) (-v)) σ3 := r3.mv g4 r3.1.1 (fun j hj => by
        rw [mA_mwA, ifF (fun z => by omega)]; exact (r3.2.1 j hj).1) r3.2.2.2.2.1.1 r3.2.2.2.2.1.2
      refine RsO.pre g4 n94 (ih (i + 1) kf (tf + 1) _ _ (by omega) (by omega) (by omega) (r2.sl g4 d4.1.1) d4 (r4.mv (V := V) (D := D) g4) (fun i' j' z => ?_))
      rw [mA_mwA]
      by_cases y : i' = i ∧ j' = n
      · obtain ⟨rfl, rfl⟩ := y
        rw [ifT ⟨rfl, rfl⟩, r6]
        exact ⟨rfl, fun z => absurd z (Nat.lt_irrefl _)⟩
      · have b25 : j' ≤ n := by omega
        rw [ifF (fun o => y (by omega))]
        exact r5 i' j' (by omega)
end MANY
