/-! Layer B: running: a block of many equations; all blocks, both sides -/
set_option maxRecDepth 100000
def smallC (M : CM) (j : Nat) : Prop := ¬ mA M 150 j < -2 ∧ ¬ 2 < mA M 150 j
section MANY2
variable {pq : Bool} {C : PC} {B : Nat} {P : Nat → Prop} {mss fss : List Nat} {V U S q A Wn K1 K2 N e r w v u b n i0 i j k : Nat} {D : FQ} {M M' M1 : CM} {σ σ' s : TS} {I0 A0 T : List Nat} {x x2 y : Int32}
theorem le2 {x : Int32} : x ≤ 2 ↔ ¬ 2 < x := by rw [Int32.not_lt]
theorem sm_small : ∀ (m c tf : Nat), c + m = n → n ≤ 24 → m < tf → (∀ j, c ≤ j → j < n → mA M 150 j = tA σ 226 j) → ∃ o, L_areSmall_2 tf (nI n) (nI c) σ = some (o, σ) ∧ ((∀ j, c ≤ j → j < n → smallC M j) → o = .inl ()) ∧ (¬ (∀ j, c ≤ j → j < n → smallC M j) → o = .inr 0) := by
  intro m
  induction m with
  | zero =>
    intro c tf e h24 ht ch
    obtain ⟨tf, rfl⟩ : ∃ g, tf = g + 1 := ⟨tf - 1, by omega⟩
    have t : nI n ≤ nI c := (bI_le (by omega) (by omega)).mpr (by omega)
    exact ⟨.inl (), by rw [L_areSmall_2, ifT t], fun _ => rfl, fun z => absurd (fun j h1 h2 => by omega) z⟩
  | succ m ih =>
    intro c tf e h24 ht ch
    obtain ⟨tf, rfl⟩ : ∃ g, tf = g + 1 := ⟨tf - 1, by omega⟩
    have t : ¬ nI n ≤ nI c := fun z => by have := (bI_le (by omega) (by omega)).mp z; omega
    have e1 : nI c + 1 = nI (c + 1) := by rw [show (1 : Int32) = nI 1 from rfl, bI_add]
    have c1 := ch c (Nat.le_refl _) (by omega)
    have ic : inb (nI c) 180 := inb_nI' (by omega) (by decide)
    rw [L_areSmall_2, ifF t, ifT ic, ix_nI (by omega), ← c1]
    by_cases z1 : mA M 150 c < -2
    · rw [ifT z1]
      exact ⟨.inr 0, rfl, fun z => absurd z1 (z c (Nat.le_refl _) (by omega)).1, fun _ => rfl⟩
    rw [ifF z1, ifT ic]
    by_cases z2 : mA M 150 c ≤ 2
    · obtain ⟨o, o1, o2, o3⟩ := ih (c + 1) tf (by omega) h24 (by omega) (fun j h1 h2 => ch j (by omega) h2)
      rw [ifT z2, nm_eq, e1]
      refine ⟨o, o1, fun z => o2 (fun j h1 h2 => z j (by omega) h2), fun z => o3 (fun y => z (fun j h1 h2 => ?_))⟩
      by_cases q : j = c
      · rw [q]; exact ⟨z1, le2.mp z2⟩
      · exact y j (by omega) h2
    · rw [ifF z2]
      exact ⟨.inr 0, rfl, fun z => absurd (le2.mpr (z c (Nat.le_refl _) (by omega)).2) z2, fun _ => rfl⟩
theorem VaE.w2 (d : VaE x2 V U Wn D M σ) (u : Nat) (x : Int32) : VaE x2 V U Wn D (mwA M 124 u x) (tsA σ 166 u x) := d.wu (u := u) x
/-- unknowns are changed -/
theorem sm_upd (x1 x4 : Int32) : ∀ (m c kf tf : Nat) (l : Bool) (M : CM) (σ : TS), c + m = n → m < kf → m + 1 < tf → RnW C B P mss fss V U S q A Wn K1 K2 N D M σ → VaE 1 V U Wn D M σ → BkR S U i0 n M σ → CgR n 0 M σ →
    RsO pq fb3 slbI slbA slbT 1 V D M σ (fun a _ M' σ' => (∃ l', a = .inl (if l' = true then 1 else 0) ∧ (l' = true ↔ l = true ∧ ∀ j, c ≤ j → j < n → smallC M j)) ∧ RnW C B P mss fss V U S q A Wn K1 K2 N D M' σ' ∧ VaE 1 V U Wn D M' σ' ∧ BkR S U i0 n M' σ' ∧ ∀ j, j < n → mA M' 150 j = mA M 150 j ∧ tA σ' 226 j = tA σ 226 j) (KL_X0_solveMany_176 kf x1 (nI i0) (nI n) x4 (if l = true then 1 else 0) (nI c) M) (L_solveRounds_204 tf (nI n) (nI i0) x4 (nI c) σ) := by
  intro m
  induction m with
  | zero =>
    intro c kf tf l M σ e hk ht w d bk ch
    have n12 := bk.1
    obtain ⟨kf, rfl⟩ : ∃ g, kf = g + 1 := ⟨kf - 1, by omega⟩
    obtain ⟨tf, rfl⟩ : ∃ g, tf = g + 1 := ⟨tf - 1, by omega⟩
    have t : nI n ≤ nI c := (bI_le (by omega) (by omega)).mpr (by omega)
    exact Or.inr ⟨.inl (if l = true then 1 else 0), (), M, σ, by rw [KL_X0_solveMany_176, ifT t], by rw [L_solveRounds_204, ifT t], RsK.rf, ⟨l, rfl, ⟨fun z => ⟨z, fun j h1 h2 => by omega⟩, fun z => z.1⟩⟩, w, d, bk, fun _ _ => ⟨rfl, rfl⟩⟩
  | succ m ih =>
    intro c kf tf l M σ e hk ht w d bk ch
    obtain ⟨n12, in180, bt⟩ := id bk
    obtain ⟨⟨-, -, U180, -⟩, -, -, -, -, -, -, -, -, hc⟩ := w.st
    obtain ⟨kf, rfl⟩ : ∃ g, kf = g + 1 := ⟨kf - 1, by omega⟩
    obtain ⟨tf, rfl⟩ : ∃ g, tf = g + 2 := ⟨tf - 2, by omega⟩
    have t : ¬ nI n ≤ nI c := fun z => by have := (bI_le (by omega) (by omega)).mp z; omega
    have e1 : nI c + 1 = nI (c + 1) := by rw [show (1 : Int32) = nI 1 from rfl, bI_add]
    obtain ⟨-, u, -, uU, u1, u2⟩ := bt c (by omega)
    have ij1 : inb (nI (i0 + c)) 180 := inb_nI' (by omega) (by decide)
    have ij4 : inb (nI (i0 + c)) 400 := inb_nI' (by omega) (by decide)
    have iu1 : inb (nI u) 180 := inb_nI' (by omega) (by decide)
    have iu2 : inb (nI u) 200 := inb_nI' (by omega) (by decide)
    have ic25 : inb (nI c) 25 := inb_nI' (by omega) (by decide)
    have ic180 : inb (nI c) 180 := inb_nI' (by omega) (by decide)
    have xj : ix (nI (i0 + c)) = i0 + c := ix_nI (by omega)
    have xc : ix (nI c) = c := ix_nI (by omega)
    have xu : ix (nI u) = u := ix_nI (by omega)
    have n94 : slbT.contains 94 = false := rfl
    have h0 := d.1.1
    have dU := (d.2.1 u uU).1
    have c0 := ch c (Nat.zero_le _) (by omega)
    rw [KL_X0_solveMany_176, ifF t, L_solveRounds_204, ifF t, t_isBad0 h0, ob_some, ifT (rfl : (0 : Int32) = 0), bI_add, ifT ij1, xj, u1, nm_eq, ifT iu1, ifT ic25, xu, xc, ifT ij4, ifT ij4, u2, ifT iu2, ifT ic180, xu, ← dU, ← c0]
    refine RsO.seq n94 (((n_in (x := (mA M 124 u).toInt64 + (mA M 150 c).toInt64) hc.1 hc.2 h0).nv d.2.2.2.2.1.1).st' w d) (fun wx M' σ' y k1 k2 fo => ?_) (fun a b M' σ' k1 k2 g ⟨q1, q2, q3, v, q4, q5⟩ => ?_)
    · refine ⟨by rw [k1, obS_inr], (), tsA σ' 166 u y, ?_, (Ft.rf _ σ').p_tsA rfl, rfl, rfl, rfl, rfl⟩
      have ne : tI (tsA σ' 166 u y) 0 ≠ 0 := fo.ne
      rw [k2, ob_some, ifT iu2, nm_eq, nm_eq, t_204F ne]
    have q5 : v = b := q5
    subst q1; subst q4; subst q5
    have d1 := d.ev q2 q3
    have w1 := w.sl (RsK.ev q2) d1.1.1
    have bk1 := bk.mv (V := V) (D := D) (RsK.ev q2)
    rw [k1, k2, obS_inl, ob_some, ifT iu1, ifT iu2, nm_eq, nm_eq, nm_eq, e1]
    have d2 := d1.w2 u v
    have g2 : RsK slbI slbA slbT V D M' σ' (mwA M' 124 u v) (tsA σ' 166 u v) := RsK.wu v
    have w2 := w1.sl g2 d2.1.1
    have bk2 := bk1.mv g2
    have m150 : ∀ j, mA (mwA M' 124 u v) 150 j = mA M' 150 j := fun j => by rw [mA_mwA, ifF (fun z => by omega)]
    have t226 : ∀ j, tA (tsA σ' 166 u v) 226 j = tA σ 226 j := fun j => by rw [tA_tsA, ifF (fun z => by omega), (q2 226 rfl).2.2.1]
    rw [ifT ic25, ifT ic25, m150]
    have fin : ∀ l2 : Bool, (l2 = true ↔ l = true ∧ smallC M' c) → RsO pq fb3 slbI slbA slbT 1 V D M' σ' (fun a _ M3 σ3 => (∃ l', a = .inl (if l' = true then 1 else 0) ∧ (l' = true ↔ l = true ∧ ∀ j, c ≤ j → j < n → smallC M' j)) ∧ RnW C B P mss fss V U S q A Wn K1 K2 N D M3 σ3 ∧ VaE 1 V U Wn D M3 σ3 ∧ BkR S U i0 n M3 σ3 ∧ ∀ j, j < n → mA M3 150 j = mA M' 150 j ∧ tA σ3 226 j = tA σ 226 j) (KL_X0_solveMany_176 kf x1 (nI i0) (nI n) x4 (if l2 = true then 1 else 0) (nI (c + 1)) (mwA M' 124 u v)) (L_solveRounds_204 (tf + 1) (nI n) (nI i0) x4 (nI (c + 1)) (tsA σ' 166 u v)) := fun l2 hl2 => by
      refine RsO.pre g2 n94 ((ih (c + 1) kf (tf + 1) l2 _ _ (by omega) (by omega) (by omega) w2 d2 bk2 (fun j h1 h2 => by rw [m150, t226]; exact ch j h1 h2)).im (fun a b M3 σ3 _ ⟨⟨l', o1, o2⟩, o3, o4, o5, o6⟩ => ⟨⟨l', o1, ?_⟩, o3, o4, o5, fun j hj => ⟨(o6 j hj).1.trans (m150 j), (o6 j hj).2.trans (t226 j)⟩⟩))
      rw [o2, hl2]
      have sm : ∀ j, smallC (mwA M' 124 u v) j ↔ smallC M' j := fun j => by unfold smallC; rw [m150]
      constructor
      · rintro ⟨⟨z1, z2⟩, z3⟩
        refine ⟨z1, fun j h1 h2 => ?_⟩
        by_cases y : j = c
        · rw [y]; exact z2
        · exact (sm j).mp (z3 j (by omega) h2)
      · rintro ⟨z1, z2⟩
        exact ⟨⟨z1, z2 c (Nat.le_refl _) (by omega)⟩, fun j h1 h2 => (sm j).mpr (z2 j (by omega) h2)⟩
    by_cases z1 : mA M' 150 c < -2
    · rw [ifT z1]; simp only [nm_eq]
      have := fin false ⟨fun z => (by cases z), fun z => absurd z1 z.2.1⟩
      rw [show (if l = true then (1 : Int32) else 0) &&& 0 = (if (false : Bool) = true then 1 else 0) by cases l <;> decide]
      exact this
    rw [ifF z1]
    by_cases z2 : 2 < mA M' 150 c
    · rw [ifT z2]; simp only [nm_eq]
      have := fin false ⟨fun z => (by cases z), fun z => absurd z2 z.2.2⟩
      rw [show (if l = true then (1 : Int32) else 0) &&& 0 = (if (false : Bool) = true then 1 else 0) by cases l <;> decide]
      exact this
    · rw [ifF z2]; simp only [nm_eq]
      have := fin l ⟨fun z => ⟨z, z1, z2⟩, fun z => z.1⟩
      rw [show (if l = true then (1 : Int32) else 0) &&& 1 = (if l = true then 1 else 0) by cases l <;> decide]
      exact this
abbrev fbR : Nat → Unit ⊕ (Unit ⊕ Nat) := fun w => .inr (.inr w)
theorem t_jF (h : tI s 0 ≠ 0) {rec : Int32 → Int32 → Int32 → TS → Option ((Unit ⊕ Unit) × TS)} {x2 x3 x4 : Int32} : J_solveRounds_201_17 rec x2 x3 x4 s = some (.inr (), s) ∧ J_solveRounds_189_17 rec x2 x3 x4 s = some (.inr (), s) := by
  obtain ⟨F, hF⟩ := fuEx
  have e : J_solveRounds_201_17 rec x2 x3 x4 s = some (.inr (), s) := by
    unfold J_solveRounds_201_17
    rw [hF, t_204F h, ob_some, t_isBad1 h, ob_some, ifF (show ¬ (1 : Int32) = 0 by decide)]
  refine ⟨e, ?_⟩
  unfold J_solveRounds_189_17
  rw [t_isBad1 h, ob_some, ifF (show ¬ (1 : Int32) = 0 by decide), e]
/-- the rounds of a block -/
theorem sm_rounds (x1 : Int32) : ∀ (m k kf tf : Nat) (M : CM) (σ : TS), k + m = 15 → m < kf → m < tf → RnW C B P mss fss V U S q A Wn K1 K2 N D M σ → VaE 1 V U Wn D M σ → BkR S U i0 n M σ →
    RsO false fbR slbI slbA slbT 1 V D M σ (fun a b M' σ' => ((a = .inl () ∧ b = .inl ()) ∨ (a = .inr (.inl ()) ∧ b = .inr ())) ∧ RnW C B P mss fss V U S q A Wn K1 K2 N D M' σ' ∧ VaE 1 V U Wn D M' σ') (KL_X0_solveMany_21 kf x1 (nI i0) (nI n) (nI k) M) (L_solveRounds_17 tf (nI n) (nI i0) (nI k) σ) := by
  intro m
  induction m with
  | zero =>
    intro k kf tf M σ e hk ht w d bk
    obtain ⟨kf, rfl⟩ : ∃ g, kf = g + 1 := ⟨kf - 1, by omega⟩
    obtain ⟨tf, rfl⟩ : ∃ g, tf = g + 1 := ⟨tf - 1, by omega⟩
    have t : (15 : Int32) ≤ nI k := by rw [show (15 : Int32) = nI 15 from rfl, bI_le (by decide) (by omega)]; omega
    exact Or.inr ⟨.inl (), .inl (), M, σ, by rw [KL_X0_solveMany_21, ifT t], by rw [L_solveRounds_17, ifT t], RsK.rf, Or.inl ⟨rfl, rfl⟩, w, d⟩
  | succ m ih =>
    intro k kf tf M σ e hk ht w d bk
    have n12 := bk.1
    have fu : 1000 < FU := by unfold FU; decide
    obtain ⟨kf, rfl⟩ : ∃ g, kf = g + 1 := ⟨kf - 1, by omega⟩
    obtain ⟨tf, rfl⟩ : ∃ g, tf = g + 1 := ⟨tf - 1, by omega⟩
    have t : ¬ (15 : Int32) ≤ nI k := fun z => by rw [show (15 : Int32) = nI 15 from rfl, bI_le (by decide) (by omega)] at z; omega
    have e1 : nI k + 1 = nI (k + 1) := by rw [show (1 : Int32) = nI 1 from rfl, bI_add]
    have n94 : slbT.contains 94 = false := rfl
    rw [KL_X0_solveMany_21, ifF t, nm_eq, L_solveRounds_17, ifF t, nm_eq]
    -- a round is counted
    have r9 : mI M 90 1 = tI σ 222 := d.2.2.2.2.1.2
    have g1 : RsK slbI slbA slbT V D M σ (msI M 90 1 (mI M 90 1 + 1)) (tsI σ 222 (tI σ 222 + 1)) := ⟨KF.rf.wI rfl TZ.one, (Ft.rf _ σ).p_tsI rfl, fun v _ _ => by rw [mI_msI, ifF (fun z => by omega)]⟩
    have d1 : VaE 1 V U Wn D (msI M 90 1 (mI M 90 1 + 1)) (tsI σ 222 (tI σ 222 + 1)) := d.mv g1 d.1.1 (fun u hu => (d.2.1 u hu).1) d.2.2.2.2.1.1 (by
      rw [mI_msI, ifT ⟨rfl, rfl⟩, tI_tsI, ifT rfl, r9])
    have w1 := w.sl g1 d1.1.1
    have bk1 := bk.mv g1
    refine RsO.pre g1 n94 ?_
    obtain ⟨M5, hM5⟩ : ∃ X, X = msI M 90 1 (mI M 90 1 + 1) := ⟨_, rfl⟩
    obtain ⟨s5, hs5⟩ : ∃ X, X = tsI σ 222 (tI σ 222 + 1) := ⟨_, rfl⟩
    rw [← hM5, ← hs5] at d1 w1 bk1 ⊢
    refine RsO.seq n94 ((sm_rows (pq := false) x1 (nI k) n 0 FU FU M5 s5 (by omega) (by omega) (by omega) w1 d1 bk1 (fun i' j' z => by omega))) (fun wx M' σ' y k1 k2 fo => ?_) (fun a b M' σ' k1 k2 g ⟨q1, w2, d2, bk2, mx⟩ => ?_)
    · change KL_X0_solveMany_41 FU x1 (nI i0) (nI n) (nI k) 0 M5 = _ at k1
      change L_solveRounds_37 FU (nI n) (nI i0) (nI k) 0 s5 = _ at k2
      exact ⟨by rw [k1, obS_inr], .inr (), σ', by rw [k2, ob_some, (t_jF fo.ne).2], Ft.rf _ σ', rfl, rfl, rfl, rfl⟩
    subst q1
    change KL_X0_solveMany_41 FU x1 (nI i0) (nI n) (nI k) 0 M5 = _ at k1
    change L_solveRounds_37 FU (nI n) (nI i0) (nI k) 0 s5 = _ at k2
    obtain ⟨-, -, -, -, -, -, -, -, -, hc⟩ := w2.st
    have mxr : MxR n M' σ' := ⟨by omega, fun i j hi hj => mx i j (Or.inl ⟨hi, hj⟩)⟩
    have eb : ElB V D M' σ' := ⟨⟨d2.1.1, d2.2.2.2.2.1.1, d2.2.2.2.2.1.2⟩, hc, w2.lt.1, w2.lt.2⟩
    rw [k1, k2, obS_inl, ob_some]
    unfold J_solveRounds_189_17
    rw [t_isBad0 d2.1.1, ob_some, ifT (rfl : (0 : Int32) = 0)]
    have el := ((z_eliminate (pq := false) eb mxr).im (Q2 := fun a _ M2 σ2 => a = .inl () ∧ RnW C B P mss fss V U S q A Wn K1 K2 N D M2 σ2 ∧ VaE 1 V U Wn D M2 σ2 ∧ BkR S U i0 n M2 σ2 ∧ CgR n 0 M2 σ2) (fun a b M2 σ2 g ⟨p1, p2, p3⟩ => by
      have gm : RsK slbI slbA slbT V D M' σ' M2 σ2 := g.mono (by decide) (by decide) (by decide)
      have dv := d2.mv gm p2.1.1 (fun u hu => by rw [g.1.ga rfl, (g.2.1 166 rfl).2.2.1]; exact (d2.2.1 u hu).1) p2.1.2.1 p2.1.2.2
      exact ⟨p1, w2.sl gm dv.1.1, dv, bk2.mv gm, p3⟩)).mono (I' := slbI) (A' := slbA) (T' := slbT) (nb' := 1) (by decide) (by decide) (by decide) (Nat.le_refl _)
    refine RsO.seq n94 el (fun wx M2 σ2 y k3 k4 fo => ?_) (fun a b2 M2 σ2 k3 k4 g2 ⟨p1, w3, d3, bk3, p3⟩ => ?_)
    · exact ⟨by rw [k3, obS_inr], .inr (), σ2, by rw [k4, ob_some, (t_jF fo.ne).1], Ft.rf _ σ2, rfl, rfl, rfl, rfl⟩
    subst p1
    rw [k3, k4, obS_inl, ob_some]
    unfold J_solveRounds_201_17
    refine RsO.seq n94 (sm_upd (pq := false) x1 (nI k) n 0 FU FU true M2 σ2 (by omega) (by omega) (by omega) w3 d3 bk3 p3) (fun wx M3 σ3 y k5 k6 fo => ?_) (fun a b3 M3 σ3 k5 k6 g3 ⟨⟨l, o1, o2⟩, w4, d4, bk4, o5⟩ => ?_)
    · change KL_X0_solveMany_176 FU x1 (nI i0) (nI n) (nI k) 1 0 M2 = _ at k5
      change L_solveRounds_204 FU (nI n) (nI i0) (nI k) 0 σ2 = _ at k6
      exact ⟨by rw [k5, obS_inr], .inr (), σ3, by rw [k6, ob_some, t_isBad1 fo.ne, ob_some, ifF (show ¬ (1 : Int32) = 0 by decide)], Ft.rf _ σ3, rfl, rfl, rfl, rfl⟩
    subst o1
    change KL_X0_solveMany_176 FU x1 (nI i0) (nI n) (nI k) 1 0 M2 = _ at k5
    change L_solveRounds_204 FU (nI n) (nI i0) (nI k) 0 σ2 = _ at k6
    obtain ⟨o, s1, s2, s3⟩ := sm_small (M := M3) (σ := σ3) (n := n) n 0 FU (by omega) (by omega) (by omega) (fun j h1 h2 => by rw [(o5 j h2).1, (o5 j h2).2]; exact p3 j h1 h2)
    have sm : ∀ j, smallC M3 j → j < n → smallC M2 j := fun j z hj => by unfold smallC at *; rw [(o5 j hj).1] at z; exact z
    have sm' : ∀ j, smallC M2 j → j < n → smallC M3 j := fun j z hj => by unfold smallC at *; rw [(o5 j hj).1]; exact z
    rw [k5, k6, obS_inl, ob_some, t_isBad0 d4.1.1, ob_some, ifT (rfl : (0 : Int32) = 0)]
    unfold F_areSmall
    by_cases z : ∀ j, 0 ≤ j → j < n → smallC M3 j
    · have l1 : l = true := o2.mpr ⟨rfl, fun j h1 h2 => sm j (z j h1 h2) h2⟩
      rw [l1, show L_areSmall_2 FU (nI n) 0 σ3 = _ from s1, s2 z, obS_inl, ob_some, ifF (show ¬ (if (true : Bool) = true then (1 : Int32) else 0) = 0 by decide), ifF (show ¬ (1 : Int32) = 0 by decide)]
      exact Or.inr ⟨_, _, M3, σ3, rfl, rfl, RsK.rf, Or.inr ⟨rfl, rfl⟩, w4, d4⟩
    · have l0 : l = false := by
        cases l with
        | false => rfl
        | true => exact absurd (fun j h1 h2 => sm' j ((o2.mp rfl).2 j h1 h2) h2) z
      rw [l0, show L_areSmall_2 FU (nI n) 0 σ3 = _ from s1, s3 z, obS_inr, ob_some, ifT (show (if (false : Bool) = true then (1 : Int32) else 0) = 0 by decide), ifT (rfl : (0 : Int32) = 0), nm_eq, nm_eq, e1]
      exact ih (k + 1) kf tf M3 σ3 (by omega) (by omega) (by omega) w4 d4 bk4
/-- a block of many equations -/
theorem z_solveMany (w : RnW C B P mss fss V U S q A Wn K1 K2 N D M σ) (d : VaE 1 V U Wn D M σ) (hb : b < 180) (bk : BkR S U i0 n M σ) (m1 : mA M 141 b = nI i0) (m2 : mA M 141 (b + 1) = nI (i0 + n)) (t1 : tA σ 209 b = nI i0) (t2 : tA σ 210 b = nI n) :
    RsO false (fun w => (.inr w : Unit ⊕ Nat)) slbI slbA slbT 1 V D M σ (fun a _ M' σ' => a = .inl () ∧ RnW C B P mss fss V U S q A Wn K1 K2 N D M' σ' ∧ VaE 1 V U Wn D M' σ') (K_X0_solveMany (nI b) M) (F_solveRounds (nI b) σ) := by
  obtain ⟨n12, i180, -⟩ := id bk
  have fu : 1000 < FU := by unfold FU; decide
  have ib1 : inb (nI b) 181 := inb_nI' (by omega) (by decide)
  have ib2 : inb (nI (b + 1)) 181 := inb_nI' (by omega) (by decide)
  have ib4 : inb (nI b) 400 := inb_nI' (by omega) (by decide)
  have xb : ix (nI b) = b := ix_nI (by omega)
  have xb1 : ix (nI (b + 1)) = b + 1 := ix_nI (by omega)
  have e1 : nI b + 1 = nI (b + 1) := by rw [show (1 : Int32) = nI 1 from rfl, bI_add]
  have e2 : nI (i0 + n) - nI i0 = nI n := by rw [nI_sub (by omega), Nat.add_sub_cancel_left]
  have n94 : slbT.contains 94 = false := rfl
  unfold K_X0_solveMany F_solveRounds
  rw [ifT ib1, xb, m1, nm_eq, e1, ifT ib2, xb1, m2, e2, nm_eq, ifT ib4, t2, nm_eq, ifT ib4, t1, nm_eq]
  refine RsO.seq n94 (sm_rounds (nI b) 15 0 FU FU M σ (by omega) (by omega) (by omega) w d bk) (fun wx M' σ' y k1 k2 fo => ?_) (fun a b' M' σ' k1 k2 g ⟨q1, w1, d1⟩ => ?_)
  · change KL_X0_solveMany_21 FU (nI b) (nI i0) (nI n) 0 M = _ at k1
    change L_solveRounds_17 FU (nI n) (nI i0) 0 σ = _ at k2
    refine ⟨by rw [k1, obS_inr], (), σ', ?_, Ft.rf _ σ', rfl, rfl, rfl, rfl⟩
    rw [k2]
    cases y with
    | inl y => rw [obS_inl, t_bad2 fo.ne, ob_some]
    | inr y => rw [obS_inr]
  · change KL_X0_solveMany_21 FU (nI b) (nI i0) (nI n) 0 M = _ at k1
    change L_solveRounds_17 FU (nI n) (nI i0) 0 σ = _ at k2
    obtain ⟨-, -, -, -, -, -, -, -, -, hc⟩ := w1.st
    rcases q1 with ⟨rfl, rfl⟩ | ⟨rfl, rfl⟩
    · rw [k1, k2, obS_inl, obS_inl, k_wrong hc.1 hc.2, ob_some, ifT (wM_k _ _ _), t_badT d1.1.1, ob_some]
      exact Or.inl ⟨_, _, _, (), rfl, rfl, FoR.wr w1 d1 44 (nI b) (by decide) ⟨rfl, rfl⟩⟩
    · rw [k1, k2, obS_inr, obS_inr]
      exact Or.inr ⟨.inl (), (), M', σ', rfl, rfl, RsK.rf, rfl, w1, d1⟩
theorem RB.cn {I A : List Nat} : ∀ n M M', RB D I A n M M' → mn M' = mn M + n ∧ ms M' = ms M + 8 * n
  | 0, _, _, h => ⟨KF.n h, h.2.2.2.2.2.2.2.2⟩
  | n + 1, M, M', ⟨M1, r, p, h1, h2⟩ => by
    obtain ⟨a1, a2⟩ := RB.cn n _ _ h1
    have b1 : mn (wM M1 r p) = mn M1 + 1 := rfl
    have b2 : ms (wM M1 r p) = ms M1 + 8 := rfl
    exact ⟨by rw [KF.n h2, b1, a1]; omega, by rw [h2.2.2.2.2.2.2.2.2, b2, a2]; omega⟩
/-- a fault told again, with its block -/
theorem FoR.again (w : RnW C B P mss fss V U S q A Wn K1 K2 N D M σ) {wo : Nat} (h : FoR false slbI slbA slbT 1 V D M σ M' σ' wo) (p : Int32) : ∃ M2, K_X0_wrong (mI M' 1200 wo) p M' = some (mn M', M2) ∧ mk M2 (mn M') = 7 ∧ FoR true slbI slbA slbT 2 V D M σ M2 (tsI σ' 1 p) (mn M') := by
  obtain ⟨n, r, ⟨h1, h2⟩, ⟨h3, h4, h5⟩, h6, ⟨h7, -⟩, h8, ⟨h9, h10⟩, h11⟩ := h
  obtain ⟨c1, c2⟩ := RB.cn n _ _ h2
  have rm := w.1.rm
  obtain ⟨n167, n98⟩ := w.lt
  refine ⟨wM M' r p, by rw [h5]; exact k_wrong ⟨by omega, by omega⟩ (by omega) r p, wM_k M' r p, n + 1, r, ⟨by omega, M', r, p, h2, KF.rf⟩, ⟨Nat.lt_succ_self _, wM_k M' r p, (wM_v M' r p).1⟩, h6, ⟨by rw [tI_tsI, ifF (by decide)]; exact h7, fun _ => by rw [tI_tsI, ifT rfl]; exact (wM_v M' r p).2⟩, h8.p_tsI rfl, ⟨by rw [tI_tsI, ifF (by decide)]; exact h9, ?_⟩, fun v hv z => ?_⟩
  · rw [tI_tsI, ifF (by decide)]
    exact (((wM_f M' r p).so (show 1 < mn M' by omega) (fun q => q)).i 90).trans h10
  · exact (((wM_f M' r p).so (by have := n98 v hv; omega) (fun q => q)).i 3213).trans (h11 v hv z)
theorem t_sbF (h : tI s 0 ≠ 0) : F_isBad s = some (1, s) := t_isBad1 h
/-- all blocks -/
theorem z_solveBlocks (w : RnW C B P mss fss V U S q A Wn K1 K2 N D M σ) (d : VaE 1 V U Wn D M σ) : RsO true (fun w => (.inr w : Unit ⊕ Nat)) slbI slbA slbT 2 V D M σ (fun a _ M' σ' => a = .inl () ∧ RnW C B P mss fss V U S q A Wn K1 K2 N D M' σ' ∧ VaE 1 V U Wn D M' σ') (K_X0_solveBlocks M) (F_solveBlocks σ) := by
  obtain ⟨⟨-, -, U180, S180, -, -⟩, -, -, -, -, -, -, ⟨nb, fb, ⟨b1, b2, b3, b4⟩, b5, -, -⟩, -⟩ := id w.st
  have fu : 1000 < FU := by unfold FU; decide
  have n94 : slbT.contains 94 = false := rfl
  have loop : ∀ (m b kf tf : Nat) (M' : CM) (σ' : TS), b + m = nb → m < kf → m < tf → RnW C B P mss fss V U S q A Wn K1 K2 N D M' σ' → VaE 1 V U Wn D M' σ' → RsK slbI slbA slbT V D M σ M' σ' →
      RsO true fb2 slbI slbA slbT 2 V D M' σ' (fun a b M2 σ2 => a = .inl () ∧ b = .inl () ∧ RnW C B P mss fss V U S q A Wn K1 K2 N D M2 σ2 ∧ VaE 1 V U Wn D M2 σ2) (KL_X0_solveBlocks_2 kf (nI b) M') (L_solveBlocks_2 tf (nI b) σ') := by
    intro m
    induction m with
    | zero =>
      intro b kf tf M' σ' e hk ht w' d' g
      obtain ⟨kf, rfl⟩ : ∃ g, kf = g + 1 := ⟨kf - 1, by omega⟩
      obtain ⟨tf, rfl⟩ : ∃ g, tf = g + 1 := ⟨tf - 1, by omega⟩
      have t1 : mI M' 75 1 ≤ nI b := by rw [g.1.i rfl, b1, bI_le (by omega) (by omega)]; omega
      have t2 : tI σ' 208 ≤ nI b := by rw [(g.2.1 208 rfl).1, b2, bI_le (by omega) (by omega)]; omega
      exact Or.inr ⟨.inl (), .inl (), M', σ', by rw [KL_X0_solveBlocks_2, ifT t1], by rw [L_solveBlocks_2, ifT t2], RsK.rf, rfl, rfl, w', d'⟩
    | succ m ih =>
      intro b kf tf M' σ' e hk ht w' d' g
      obtain ⟨kf, rfl⟩ : ∃ g, kf = g + 1 := ⟨kf - 1, by omega⟩
      obtain ⟨tf, rfl⟩ : ∃ g, tf = g + 1 := ⟨tf - 1, by omega⟩
      have t1 : ¬ mI M' 75 1 ≤ nI b := by rw [g.1.i rfl, b1, bI_le (by omega) (by omega)]; omega
      have t2 : ¬ tI σ' 208 ≤ nI b := by rw [(g.2.1 208 rfl).1, b2, bI_le (by omega) (by omega)]; omega
      have e1 : nI b + 1 = nI (b + 1) := by rw [show (1 : Int32) = nI 1 from rfl, bI_add]
      have ib1 : inb (nI b) 180 := inb_nI' (by omega) (by decide)
      have ib4 : inb (nI b) 400 := inb_nI' (by omega) (by decide)
      have xb : ix (nI b) = b := ix_nI (by omega)
      obtain ⟨⟨f1, f2, f3⟩, ⟨a1, a2, a3, a4⟩, ⟨l1, l2⟩, un⟩ := b5 b (by omega)
      obtain ⟨i0, hi0⟩ : ∃ i0, i0 = fb b := ⟨_, rfl⟩
      obtain ⟨n, hn⟩ : ∃ n, n = fb (b + 1) - fb b := ⟨_, rfl⟩
      have hfb : fb (b + 1) = i0 + n := by omega
      have bk0 : BkR S U i0 n M σ := ⟨by omega, by omega, fun t ht => by
        obtain ⟨e, u, ⟨c1, c2, c3, c4⟩, c5, -, c6, c7⟩ := un (i0 + t) (by omega) (by omega)
        exact ⟨e, u, ⟨c1, c2, c3, c4⟩, c5, c6, c7⟩⟩
      have bk := bk0.mv g
      have m1 : mA M' 141 b = nI i0 := by rw [g.1.ga rfl, a1, hi0]
      have m2 : mA M' 141 (b + 1) = nI (i0 + n) := by rw [g.1.ga rfl, a2, hfb]
      have s1 : tA σ' 209 b = nI i0 := by rw [(g.2.1 209 rfl).2.2.1, a3, hi0]
      have s2 : tA σ' 210 b = nI n := by rw [(g.2.1 210 rfl).2.2.1, a4, hn]
      have m4 : mA M' 144 b = tA σ 213 b := by rw [g.1.ga rfl, l1]
      have s4 : tA σ' 213 b = tA σ 213 b := (g.2.1 213 rfl).2.2.1 b
      rw [KL_X0_solveBlocks_2, ifF t1, L_solveBlocks_2, ifF t2, ifT ib1, ifT ib4, xb, m4, s4]
      have key : ∀ (kr : Option ((Unit ⊕ Nat) × CM)) (tr : Option (Unit × TS)), RsO false (fun w => (.inr w : Unit ⊕ Nat)) slbI slbA slbT 1 V D M' σ' (fun a _ M2 σ2 => a = .inl () ∧ RnW C B P mss fss V U S q A Wn K1 K2 N D M2 σ2 ∧ VaE 1 V U Wn D M2 σ2) kr tr →
          RsO true fb2 slbI slbA slbT 2 V D M' σ' (fun a b M2 σ2 => a = .inl () ∧ b = .inl () ∧ RnW C B P mss fss V U S q A Wn K1 K2 N D M2 σ2 ∧ VaE 1 V U Wn D M2 σ2)
            (obS kr (fun w7 M3 => if mk M3 w7 = 7 then ob (K_X0_wrong (mI M3 1200 w7) (nI b) M3) fun r10 M9 => if mk M9 r10 = 7 then some (.inr (.inr r10), M9) else none else none) fun _ M3 => nm (nI b + 1) fun v14 => KL_X0_solveBlocks_2 kf v14 M3)
            (ob tr fun _ s3 => ob (F_isBad s3) fun r8 s7 => if r8 = 0 then nm (nI b + 1) fun v11 => L_solveBlocks_2 tf v11 s7 else nm (tsI s7 1 (nI b)) fun s12 => some (.inr (), s12)) := fun kr tr h => by
        rcases h with ⟨M2, σ2, wo, y, k1, k2, fo⟩ | ⟨a, y, M2, σ2, k1, k2, g2, rfl, w2, d2⟩
        · obtain ⟨M3, q1, q2, q3⟩ := FoR.again w' fo (nI b)
          refine Or.inl ⟨M3, tsI σ2 1 (nI b), mn M2, .inr (), ?_, ?_, q3⟩
          · obtain ⟨-, -, -, ⟨-, h7, -⟩, -⟩ := id fo
            rw [k1, obS_inr, ifT h7, q1, ob_some, ifT q2]
          · rw [k2, ob_some, t_isBad1 fo.ne, ob_some, ifF (show ¬ (1 : Int32) = 0 by decide), nm_eq]
        · rw [k1, k2, obS_inl, ob_some, t_isBad0 d2.1.1, ob_some, ifT (rfl : (0 : Int32) = 0), nm_eq, nm_eq, e1]
          exact RsO.pre g2 n94 (ih (b + 1) kf tf M2 σ2 (by omega) (by omega) (by omega) w2 d2 (g.tr g2 n94))
      by_cases z : tA σ 213 b = 0
      · rw [ifT z, ifT z]
        exact key _ _ (z_solveMany w' d' (by omega) bk m1 m2 s1 s2)
      · rw [ifF z, ifF z]
        have n1 : n = 1 := by
          rcases l2 with l2 | ⟨-, l2⟩
          · exact absurd l2 z
          · omega
        obtain ⟨-, -, bt⟩ := bk
        obtain ⟨e', u, ⟨c1, c2, c3, c4⟩, c5, c6, c7⟩ := bt 0 (by omega)
        rw [Nat.add_zero] at c3 c4 c6 c7
        refine key _ _ ((z_solveOne w' d' (by omega) (i := i0) (by omega) m1 s1 c1 c2 c3 c4 c5 c6 c7).im (fun a b M2 σ2 g2 ⟨p1, p2, p3⟩ => ⟨p1, w'.sl g2 p2, p3⟩))
  unfold K_X0_solveBlocks F_solveBlocks
  refine RsO.seq n94 (loop nb 0 FU FU M σ (by omega) (by omega) (by omega) w d RsK.rf) (fun wx M' σ' y k1 k2 fo => ?_) (fun a b M' σ' k1 k2 g ⟨q1, q2, w1, d1⟩ => ?_)
  · change KL_X0_solveBlocks_2 FU 0 M = _ at k1
    change L_solveBlocks_2 FU 0 σ = _ at k2
    refine ⟨by rw [k1, obS_inr], (), σ', ?_, Ft.rf _ σ', rfl, rfl, rfl, rfl⟩
    rw [k2]
    cases y with
    | inl y => rw [obS_inl]
    | inr y => rw [obS_inr]
  · subst q1; subst q2
    change KL_X0_solveBlocks_2 FU 0 M = _ at k1
    change L_solveBlocks_2 FU 0 σ = _ at k2
    rw [k1, k2, obS_inl, obS_inl]
    exact Or.inr ⟨.inl (), (), M', σ', rfl, rfl, RsK.rf, rfl, w1, d1⟩
end MANY2
