/-! Layer B: steady states, both sides -/
set_option maxRecDepth 100000
abbrev sk2T : List Nat := [0, 1, 163, 165, 166, 167, 168, 169, 170, 171, 222, 225, 226, 227, 228, 229, 230, 231, 232, 233, 234, 235, 245]
section STEADY
variable {pq : Bool} {C C' : PC} {B : Nat} {P : Nat → Prop} {mss fss : List Nat} {V U S q A Wn K1 K2 N e r w v u b n i j k a m kf tf h wo nb t0 X ns : Nat} {D : FQ} {M M' M1 Mb M2 : CM} {σ σ' s σ1 s1 s2 : TS} {x x1 x2 x3 y z y1 y2 y3 : Int32} {I A0 T : List Nat}
theorem t_238F (hs : tI s 0 ≠ 0) {f : Nat} : L_steady_238 (f + 1) x1 x2 x3 y s = some ((), s) := by
  rw [L_steady_238]
  by_cases z : tI s 198 ≤ y
  · rw [ifT z]
  · rw [ifF z, t_isBad1 hs, ob_some, ifF (show ¬ (1 : Int32) = 0 by decide)]
theorem t_43B (hs : tI s 0 ≠ 0) {f : Nat} : L_steady_43 (f + 1) x1 x2 s = some (.inl (), s) := by
  rw [L_steady_43]
  by_cases z : 10 < x2
  · rw [ifT z]
  · rw [ifF z, t_isBad1 hs, ob_some, ifF (show ¬ (1 : Int32) = 0 by decide)]
theorem t_234B (hs : tI s 0 ≠ 0) {rec : Int32 → Int32 → TS → Option ((Unit ⊕ Int32) × TS)} (hr : ∀ x y, rec x y s = some (.inl (), s)) : J_steady_234_43 rec x1 x2 y s = some (.inl (), s) := by
  have n1 : ¬ (1 : Int32) = 0 := by decide
  obtain ⟨g, hg⟩ := fuEx
  unfold J_steady_234_43
  rw [hg, t_238F hs, ob_some, t_isBad1 hs, ob_some, ifF n1, t_isBad1 hs, ob_some, ifF n1, nm_eq, hr]
theorem t_211B (hs : tI s 0 ≠ 0) {rec : Int32 → Int32 → TS → Option ((Unit ⊕ Int32) × TS)} (hr : ∀ x y, rec x y s = some (.inl (), s)) : J_steady_211_43 rec x1 x2 s = some (.inl (), s) := by
  have n1 : ¬ (1 : Int32) = 0 := by decide
  unfold J_steady_211_43 J_steady_233_43
  rw [t_isBad1 hs, ob_some, ifF n1, t_234B hs hr]
/-- an answer comes only without a fault -/
theorem t_43i : ∀ (tf : Nat) (x1 x2 : Int32) (σ : TS) {r : Int32} {s : TS}, L_steady_43 tf x1 x2 σ = some (.inr r, s) → tI s 0 = 0
  | 0, _, _, _, _, _, h => by rw [L_steady_43] at h; cases h
  | tf + 1, x1, x2, σ, r, s, h => by
    have hr := fun x y σ (r : Int32) (s : TS) (h : L_steady_43 tf x y σ = some (.inr r, s)) => t_43i tf x y σ h
    have h234 : ∀ (y : Int32) (σ : TS), J_steady_234_43 (L_steady_43 tf) x1 x2 y σ = some (.inr r, s) → tI s 0 = 0 := fun y σ h => by
      unfold J_steady_234_43 at h
      obtain ⟨r1, s1, e1, h⟩ := ob_e h
      obtain ⟨rb, rb1, h⟩ := ob_bad h
      by_cases z : rb = 0
      · rw [ifT z] at h
        obtain ⟨r2, s2, e2, h⟩ := ob_e h
        obtain ⟨rb2, rb3, h⟩ := ob_bad h
        by_cases z2 : rb2 = 0
        · rw [ifT z2] at h
          by_cases z3 : y = 0
          · rw [ifT z3, nm_eq] at h; exact hr _ _ _ _ _ h
          · rw [ifF z3] at h; cases h; exact rb3.mp z2
        · rw [ifF z2, nm_eq] at h; exact hr _ _ _ _ _ h
      · rw [ifF z] at h
        obtain ⟨rb2, rb3, h⟩ := ob_bad h
        by_cases z2 : rb2 = 0
        · rw [ifT z2] at h
          by_cases z3 : y = 0
          · rw [ifT z3, nm_eq] at h; exact hr _ _ _ _ _ h
          · rw [ifF z3] at h; cases h; exact rb3.mp z2
        · rw [ifF z2, nm_eq] at h; exact hr _ _ _ _ _ h
    have h211 : ∀ (σ : TS), J_steady_211_43 (L_steady_43 tf) x1 x2 σ = some (.inr r, s) → tI s 0 = 0 := fun σ h => by
      unfold J_steady_211_43 J_steady_233_43 at h
      obtain ⟨rb, rb1, h⟩ := ob_bad h
      by_cases z : rb = 0
      · rw [ifT z] at h
        obtain ⟨r2, s2, e2, h⟩ := ob_e h
        by_cases z2 : r2 = 0
        · rw [ifT z2] at h; exact h234 _ _ h
        · rw [ifF z2] at h; exact h234 _ _ h
      · rw [ifF z] at h; exact h234 _ _ h
    rw [L_steady_43] at h
    by_cases t : 10 < x2
    · rw [ifT t] at h; cases h
    · rw [ifF t] at h
      obtain ⟨rb, -, h⟩ := ob_bad h
      by_cases z : rb = 0
      · rw [ifT z] at h
        obtain ⟨r1, s1, e1, h⟩ := ob_e h
        unfold J_steady_111_43 J_steady_155_43 at h
        obtain ⟨r2, s2, e2, h⟩ := ob_e h
        obtain ⟨r3, s3, e3, h⟩ := ob_e h
        obtain ⟨r5, s5, e5, h⟩ := ob_e h
        obtain ⟨rb2, -, h⟩ := ob_bad h
        by_cases z2 : rb2 = 0
        · rw [ifT z2] at h
          obtain ⟨r6, s6, e6, h⟩ := ob_e h
          exact h211 _ h
        · rw [ifF z2] at h; exact h211 _ h
      · rw [ifF z] at h; cases h
/-- states are changed -/
theorem sk_upd (n24 : ns ≤ 24) (x1 y1 y2 y3 : Int32) : ∀ (m c kf tf : Nat) (l : Bool) (M : CM) (σ : TS), c + m = ns → m < kf → m + 1 < tf → RnW C B P mss fss V U S q A Wn K1 K2 N D M σ → VaE 1 V U Wn D M σ → SaR ns U M σ → CgR ns 0 M σ →
    RsO true fbI slbI slbA slbT 1 V D M σ (fun a _ M' σ' => (∃ l', a = .inl (if l' = true then 1 else 0) ∧ (l' = true ↔ l = true ∧ ∀ j, c ≤ j → j < ns → smallC M j)) ∧ RnW C B P mss fss V U S q A Wn K1 K2 N D M' σ' ∧ VaE 1 V U Wn D M' σ' ∧ SaR ns U M' σ') (KL_X0_seek_128 kf x1 (if l = true then 1 else 0) (nI c) M) (L_steady_238 tf y1 y2 y3 (nI c) σ) := by
  intro m
  induction m with
  | zero =>
    intro c kf tf l M σ e hk ht w d st ch
    obtain ⟨kf, rfl⟩ : ∃ g, kf = g + 1 := ⟨kf - 1, by omega⟩
    obtain ⟨tf, rfl⟩ : ∃ g, tf = g + 1 := ⟨tf - 1, by omega⟩
    obtain ⟨⟨h74, h198, -, -⟩, -⟩ := id st
    have t1 : mI M 74 1 ≤ nI c := by rw [h74, bI_le (by omega) (by omega)]; omega
    have t2 : tI σ 198 ≤ nI c := by rw [h198, bI_le (by omega) (by omega)]; omega
    exact Or.inr ⟨.inl (if l = true then 1 else 0), (), M, σ, by rw [KL_X0_seek_128, ifT t1], by rw [L_steady_238, ifT t2], RsK.rf, ⟨l, rfl, ⟨fun z => ⟨z, fun j h1 h2 => by omega⟩, fun z => z.1⟩⟩, w, d, st⟩
  | succ m ih =>
    intro c kf tf l M σ e hk ht w d st ch
    obtain ⟨⟨-, -, U180, -⟩, -, -, -, -, -, -, -, -, hc⟩ := w.st
    obtain ⟨kf, rfl⟩ : ∃ g, kf = g + 1 := ⟨kf - 1, by omega⟩
    obtain ⟨tf, rfl⟩ : ∃ g, tf = g + 2 := ⟨tf - 2, by omega⟩
    obtain ⟨⟨h74, h198, -, -⟩, hs⟩ := id st
    have t1 : ¬ mI M 74 1 ≤ nI c := by rw [h74, bI_le (by omega) (by omega)]; omega
    have t2 : ¬ tI σ 198 ≤ nI c := by rw [h198, bI_le (by omega) (by omega)]; omega
    obtain ⟨uU, u1, u2, -⟩ := hs c (by omega)
    obtain ⟨u, hu⟩ : ∃ Y, Y = us σ c := ⟨_, rfl⟩
    rw [← hu] at uU u1 u2
    have iu1 : inb (nI u) 180 := inb_nI' (by omega) (by decide)
    have iu2 : inb (nI u) 200 := inb_nI' (by omega) (by decide)
    have ic25 : inb (nI c) 25 := inb_nI' (by omega) (by decide)
    have ic180 : inb (nI c) 180 := inb_nI' (by omega) (by decide)
    have ic200 : inb (nI c) 200 := inb_nI' (by omega) (by decide)
    have xc : ix (nI c) = c := ix_nI (by omega)
    have xu : ix (nI u) = u := ix_nI (by omega)
    have n94 : slbT.contains 94 = false := rfl
    have h0 := d.1.1
    have dU := (d.2.1 u uU).1
    have c0 := ch c (Nat.zero_le _) (by omega)
    rw [KL_X0_seek_128, ifF t1, show tf + 2 = tf + 1 + 1 from rfl, L_steady_238, ifF t2, t_isBad0 h0, ob_some, ifT (rfl : (0 : Int32) = 0), ifT ic180, ifT ic180, xc, u1, ifT iu1, ifT ic25, xu, ifT ic200, ifT ic200, u2, ifT iu2, ifT ic180, xu, ← dU, ← c0]
    refine RsO.seq n94 (((n_in (x := (mA M 124 u).toInt64 + (mA M 150 c).toInt64) hc.1 hc.2 h0).nv d.2.2.2.2.1.1).st' w d) (fun wx M' σ' y k1 k2 fo => ?_) (fun a b M' σ' k1 k2 g ⟨q1, q2, q3, v, q4, q5⟩ => ?_)
    · refine ⟨by rw [k1, obS_inr], (), tsA σ' 166 u y, ?_, (Ft.rf _ σ').p_tsA rfl, rfl, rfl, rfl, rfl⟩
      have ne : tI (tsA σ' 166 u y) 0 ≠ 0 := fo.ne
      rw [k2, ob_some, ifT iu2, nm_eq, nm_eq, t_238F ne]
    have q5 : v = b := q5
    subst q1; subst q4; subst q5
    have d1 := d.ev q2 q3
    have w1 := w.sl (RsK.ev q2) d1.1.1
    have d2 := d1.w2 u v
    have g2 : RsK slbI slbA slbT V D M' σ' (mwA M' 124 u v) (tsA σ' 166 u v) := RsK.wu v
    have w2 := w1.sl g2 d2.1.1
    have st2 : SaR ns U (mwA M' 124 u v) (tsA σ' 166 u v) := (st.up (KF.rf (D := D) (I := []) (A := [])) q2 rfl ⟨rfl, rfl⟩ rfl).up g2.1 g2.2.1 rfl ⟨rfl, rfl⟩ rfl
    have m150 : ∀ j, mA (mwA M' 124 u v) 150 j = mA M' 150 j := fun j => by rw [mA_mwA, ifF (fun z => by omega)]
    have t226 : ∀ j, tA (tsA σ' 166 u v) 226 j = tA σ 226 j := fun j => by rw [tA_tsA, ifF (fun z => by omega), (q2 226 rfl).2.2.1]
    rw [k1, k2, obS_inl, ob_some, ifT iu1, ifT iu2, nm_eq, nm_eq, nm_eq, p1n, ifT ic25, ifT ic25, m150]
    have fin : ∀ l2 : Bool, (l2 = true ↔ l = true ∧ smallC M' c) → RsO true fbI slbI slbA slbT 1 V D M' σ' (fun a _ M3 σ3 => (∃ l', a = .inl (if l' = true then 1 else 0) ∧ (l' = true ↔ l = true ∧ ∀ j, c ≤ j → j < ns → smallC M' j)) ∧ RnW C B P mss fss V U S q A Wn K1 K2 N D M3 σ3 ∧ VaE 1 V U Wn D M3 σ3 ∧ SaR ns U M3 σ3) (KL_X0_seek_128 kf x1 (if l2 = true then 1 else 0) (nI (c + 1)) (mwA M' 124 u v)) (L_steady_238 (tf + 1) y1 y2 y3 (nI (c + 1)) (tsA σ' 166 u v)) := fun l2 hl2 => by
      refine RsO.pre g2 n94 ((ih (c + 1) kf (tf + 1) l2 _ _ (by omega) (by omega) (by omega) w2 d2 st2 (fun j h1 h2 => by rw [m150, t226]; exact ch j h1 h2)).im (fun a b M3 σ3 _ ⟨⟨l', o1, o2⟩, o3, o4, o5⟩ => ⟨⟨l', o1, ?_⟩, o3, o4, o5⟩))
      rw [o2, hl2]
      have sm : ∀ j, smallC (mwA M' 124 u v) j ↔ smallC M' j := fun j => by unfold smallC; rw [m150]
      constructor
      · rintro ⟨⟨z1, z2⟩, z3⟩
        refine ⟨z1, fun j h1 h2 => ?_⟩
        by_cases y : j = c
        · rw [y]; exact z2
        · exact (sm j).mp (z3 j (by omega) h2)
      · rintro ⟨z1, z2⟩
        exact ⟨⟨z1, z2 c (Nat.le_refl _) (by omega)⟩, fun j h1 h2 => (sm j).mpr (z2 j (by omega) h2)⟩
    by_cases z1 : mA M' 150 c < -2
    · rw [ifT z1]; simp only [nm_eq]
      have := fin false ⟨fun z => (by cases z), fun z => absurd z1 z.2.1⟩
      rw [show (if l = true then (1 : Int32) else 0) &&& 0 = (if (false : Bool) = true then 1 else 0) by cases l <;> decide]
      exact this
    rw [ifF z1]
    by_cases z2 : 2 < mA M' 150 c
    · rw [ifT z2]; simp only [nm_eq]
      have := fin false ⟨fun z => (by cases z), fun z => absurd z2 z.2.2⟩
      rw [show (if l = true then (1 : Int32) else 0) &&& 0 = (if (false : Bool) = true then 1 else 0) by cases l <;> decide]
      exact this
    · rw [ifF z2]; simp only [nm_eq]
      have := fin l ⟨fun z => ⟨z, z1, z2⟩, fun z => z.1⟩
      rw [show (if l = true then (1 : Int32) else 0) &&& 1 = (if l = true then 1 else 0) by cases l <;> decide]
      exact this
/-- rounds of the search -/
theorem sk_loop (h1 : 1 ≤ ns) (x1 : Int32) : ∀ (m n kf tf : Nat) (M : CM) (σ : TS), n + m = 11 → 1 ≤ n → m < kf → m + 1 < tf → RnW C B P mss fss V U S q A Wn K1 K2 N D M σ → VaE 1 V U Wn D M σ → SaR ns U M σ →
    RsO true fbW skI skA sk2T 2 V D M σ (fun a b M' σ' => ((a = .inl () ∧ b = .inl ()) ∨ ∃ r, a = .inr (.inl r) ∧ b = .inr r) ∧ RnW C B P mss fss V U S q A Wn K1 K2 N D M' σ' ∧ VaE 1 V U Wn D M' σ' ∧ SaR ns U M' σ') (KL_X0_seek_7 kf (nI n) M) (L_steady_43 tf x1 (nI n) σ) := by
  have fu : 1000 < FU := by unfold FU; decide
  have n94 : sk2T.contains 94 = false := rfl
  intro m
  induction m with
  | zero =>
    intro n kf tf M σ e hn hk ht w d st
    obtain ⟨kf, rfl⟩ : ∃ g, kf = g + 1 := ⟨kf - 1, by omega⟩
    obtain ⟨tf, rfl⟩ : ∃ g, tf = g + 1 := ⟨tf - 1, by omega⟩
    obtain ⟨⟨h74, h198, n24, -⟩, -⟩ := id st
    have t0 : ¬ mI M 74 1 ≤ 0 := by rw [h74, show (0 : Int32) = nI 0 from rfl, bI_le (by omega) (by decide)]; omega
    have t1 : (10 : Int32) < nI n := by rw [show (10 : Int32) = nI 10 from rfl, bI_lt (by decide) (by omega)]; omega
    exact Or.inr ⟨.inl (), .inl (), M, σ, by rw [KL_X0_seek_7, ifF t0, ifT t1], by rw [L_steady_43, ifT t1], RsK.rf, Or.inl ⟨rfl, rfl⟩, w, d, st⟩
  | succ m ih =>
    intro n kf tf M σ e hn hk ht w d st
    obtain ⟨kf, rfl⟩ : ∃ g, kf = g + 1 := ⟨kf - 1, by omega⟩
    obtain ⟨tf, rfl⟩ : ∃ g, tf = g + 2 := ⟨tf - 2, by omega⟩
    obtain ⟨⟨h74, h198, n24, U180⟩, hs⟩ := id st
    have t0 : ¬ mI M 74 1 ≤ 0 := by rw [h74, show (0 : Int32) = nI 0 from rfl, bI_le (by omega) (by decide)]; omega
    have t1 : ¬ (10 : Int32) < nI n := by rw [show (10 : Int32) = nI 10 from rfl, bI_lt (by decide) (by omega)]; omega
    have n1 : ¬ (1 : Int32) = 0 := by decide
    -- the twin notes the rates first
    obtain ⟨s1, a1, a2, a3⟩ := t_st58 st d.1.1 x1 (nI n)
    have st1 : SaR ns U M s1 := st.up (KF.rf (D := D) (I := []) (A := [])) a2 rfl ⟨rfl, rfl⟩ rfl
    obtain ⟨s2, a4, a5, a6⟩ := t_st113 st1 ((a2 0 rfl).1.trans d.1.1) x1 (nI n)
    have st2 : SaR ns U M s2 := st1.up (KF.rf (D := D) (I := []) (A := [])) a5 rfl ⟨rfl, rfl⟩ rfl
    have f2 : Ft [225, 227] σ s2 := (a2.mono (by decide)).tr (a5.mono (by decide))
    have d2 : VaE 1 V U Wn D M s2 := d.up (KF.rf (D := D) (I := []) (A := [])) f2 (by decide) (by decide) (by decide)
    have w2 := w.kf KF.rf (I0 := []) (A0 := []) rfl rfl f2 (by decide) d2.1.1 PaK.rf
    have g2 : RsK skI skA sk2T V D M σ M s2 := ⟨KF.rf, f2.mono (by decide), PaK.rf⟩
    have rate : ∀ i, i < ns → tA s2 227 i = -(rtK M i) := fun i hi => by
      obtain ⟨c1, c2, c3, w0, w1, c4, c5⟩ := hs i hi
      rw [a6 i hi, a3 i hi]
      unfold rtK
      rw [c2, ix_nI (n := us σ i) (by omega), c4, ix_nI (n := w0) (by omega), c5, ix_nI (n := w0) (by omega), (d.2.1 w0 w1).1]
    rw [KL_X0_seek_7, ifF t0, ifF t1, show tf + 2 = tf + 1 + 1 from rfl, L_steady_43, ifF t1, t_isBad0 d.1.1, ob_some, ifT (rfl : (0 : Int32) = 0), a1, ob_some]
    unfold J_steady_111_43 J_steady_155_43 F_slopes
    rw [a4, ob_some]
    refine RsO.pre g2 n94 ?_
    have rows := ((sk_rows (C := C) (B := B) (P := P) (mss := mss) (fss := fss) (V := V) (D := D) (U := U) (S := S) (q := q) (A := A) (Wn := Wn) (K1 := K1) (K2 := K2) (N := N) (Mb := M) n24 (nI n) (fun i hi => by
      obtain ⟨c1, c2, c3, w0, w1, c4, c5⟩ := hs i hi
      exact ⟨us σ i, w0, by omega, by omega, c2, c4⟩) ns 0 FU FU M s2 (by omega) (by omega) (by omega) ⟨w2, d2, st2, fun _ _ => rfl⟩ (fun _ => ⟨rfl, rfl⟩) (fun i' j' z => by omega) (fun i' z => by omega)).im (Q2 := fun a _ M' σ' => (a = .inl () ∧ SkS C B P mss fss V U S q A Wn K1 K2 N D ns M M' σ' ∧ MqS ns 0 ns M' σ' ∧ RhS ns ns M M') ∧ ∀ i, tA σ' 227 i = tA s2 227 i) (fun a b M' σ' g z => ⟨z, fun i => (g.2.1 227 rfl).2.2.1 i⟩)).mono (I' := skI) (A' := skA) (T' := sk2T) (nb' := 2) (by decide) (by decide) (by decide) (Nat.le_refl _)
    refine RsO.seq n94 rows (fun wx M' σ' y k1 k2 fo => ?_) (fun a b M' σ' k1 k2 g ⟨⟨g1, ⟨w3, d3, st3, e3⟩, mq, rh⟩, t227⟩ => ?_)
    · change KL_X0_seek_22 FU (nI n) 0 M = _ at k1
      change L_slopes_2 FU 0 s2 = _ at k2
      obtain ⟨n', r', -, -, -, -, f6, -⟩ := id fo
      have h198' : tI σ' 198 = nI ns := (f6 198 rfl).1.trans st2.1.2.1
      obtain ⟨s4, b1, b2, -⟩ := t_sl66 h198' n24
      obtain ⟨s5, b3, b4, -, -⟩ := t_st161 (s := s4) ((b2 198 rfl).1.trans h198') n24 x1 (nI n)
      have f5 : Ft [225] σ' s5 := b2.tr b4
      have ne : tI s5 0 ≠ 0 := by rw [(f5 0 rfl).1]; exact fo.ne
      refine ⟨by rw [k1, obS_inr], .inl (), s5, ?_, f5.mono (by decide), (f5 0 rfl).1, (f5 1 rfl).1, (f5 171 rfl).1, (f5 222 rfl).1⟩
      rw [k2, ob_some, b1, ob_some, b3, ob_some, t_isBad1 ne, ob_some, ifF n1, t_211B ne (fun x y => t_43B ne)]
    subst g1
    change KL_X0_seek_22 FU (nI n) 0 M = _ at k1
    change L_slopes_2 FU 0 s2 = _ at k2
    have h198' : tI σ' 198 = nI ns := st3.1.2.1
    obtain ⟨s4, b1, b2, b2'⟩ := t_sl66 h198' n24
    obtain ⟨s5, b3, b4, b5, b6⟩ := t_st161 (s := s4) ((b2 198 rfl).1.trans h198') n24 x1 (nI n)
    have f5 : Ft [225] σ' s5 := b2.tr b4
    have a166 := w3.ar (a := (166, 50, 625)) (by decide)
    have a149 := w3.ar (a := (149, 50, 625)) (by decide)
    obtain ⟨M5, hM5⟩ : ∃ X, X = mcA M' 166 (ix 0) 149 (ix 0) (ix 625) := ⟨_, rfl⟩
    have k5 : KF D [] [] [149] [] M' M5 := by rw [hM5]; exact KF.rf.mcA rfl (by decide)
    have v5 : ∀ u, u < 625 → mA M5 149 u = mA M' 166 u := fun u hu => by
      rw [hM5, mA_mcA, show ix 0 = 0 by decide, show ix 625 = 625 by decide, ifT ⟨rfl, by omega, by omega⟩, Nat.zero_add, Nat.sub_zero]
    have d5 : VaE 1 V U Wn D M5 s5 := d3.up k5 f5 (by decide) (by decide) (by decide)
    have g5 : RsK skI skA sk2T V D M' σ' M5 s5 := ⟨k5.mono (by decide) (by decide) (by decide) (by decide), f5.mono (by decide), PaK.of k5 rfl⟩
    have w5 := w3.kf k5 (by decide) (by decide) f5 (by decide) d5.1.1 g5.2.2
    have st5 : SaR ns U M5 s5 := st3.up k5 f5 rfl ⟨rfl, rfl⟩ rfl
    have mxr : MxR ns M5 s5 := ⟨n24, fun i j hi hj => by
      rw [v5 _ (by omega)]
      by_cases z : j < ns
      · obtain ⟨q1, q2⟩ := mq i j (Or.inl ⟨hi, z⟩)
        exact ⟨by rw [q1, b6 i j z, b2' i j hi z], fun _ => q2⟩
      · have : j = ns := by omega
        subst this
        exact ⟨by rw [rh i hi, b5 i hi, (b2 227 rfl).2.2.1, t227, rate i hi], fun z => absurd z (by omega)⟩⟩
    obtain ⟨-, -, -, -, -, -, -, -, -, hc⟩ := w5.st
    have eb : ElB V D M5 s5 := ⟨⟨d5.1.1, d5.2.2.2.2.1.1, d5.2.2.2.2.1.2⟩, hc, w5.lt.1, w5.lt.2⟩
    have cd : mk M' 166 = 50 ∧ mk M' 149 = 50 ∧ ¬ (0 : Int32) < 0 ∧ ¬ (0 : Int32) < 0 ∧ ¬ (625 : Int32) < 0 ∧ ix 0 + ix 625 ≤ ml M' 166 ∧ ix 0 + ix 625 ≤ ml M' 149 := ⟨a166.1, a149.1, by decide, by decide, by decide, by rw [a166.2]; decide, by rw [a149.2]; decide⟩
    rw [k1, obS_inl, ifT cd, nm_eq, ← hM5, st5.1.1, k2, ob_some, b1, ob_some, b3, ob_some, t_isBad0 d5.1.1, ob_some, ifT (rfl : (0 : Int32) = 0), st5.1.2.1]
    refine RsO.pre g5 n94 ?_
    have el := ((z_eliminate (pq := true) eb mxr).im (Q2 := fun a _ M2 σ2 => a = .inl () ∧ RnW C B P mss fss V U S q A Wn K1 K2 N D M2 σ2 ∧ VaE 1 V U Wn D M2 σ2 ∧ SaR ns U M2 σ2 ∧ CgR ns 0 M2 σ2) (fun a b M2 σ2 g ⟨p1, p2, p3⟩ => by
      have gm : RsK slbI slbA slbT V D M5 s5 M2 σ2 := g.mono (by decide) (by decide) (by decide)
      have dv := d5.mv gm p2.1.1 (fun u hu => by rw [g.1.ga rfl, (g.2.1 166 rfl).2.2.1]; exact (d5.2.1 u hu).1) p2.1.2.1 p2.1.2.2
      exact ⟨p1, w5.sl gm dv.1.1, dv, st5.up gm.1 gm.2.1 rfl ⟨rfl, rfl⟩ rfl, p3⟩)).mono (I' := skI) (A' := skA) (T' := sk2T) (nb' := 2) (by decide) (by decide) (by decide) (by decide)
    refine RsO.seq n94 el (fun wx M6 s6 y k3 k4 fo => ?_) (fun a b2' M6 s6 k3 k4 g6 ⟨p1, w6, d6, st6, cg⟩ => ?_)
    · exact ⟨by rw [k3, obS_inr], .inl (), s6, by rw [k4, ob_some, t_211B fo.ne (fun x y => t_43B fo.ne)], Ft.rf _ _, rfl, rfl, rfl, rfl⟩
    subst p1
    rw [k3, obS_inl, k4, ob_some]
    -- is it near enough?
    obtain ⟨yS, hyS⟩ : ∃ Y : Int32, (Y = 1 ∧ ∀ j, 0 ≤ j → j < ns → smallC M6 j) ∨ (Y = 0 ∧ ¬ ∀ j, 0 ≤ j → j < ns → smallC M6 j) := by
      by_cases z : ∀ j, 0 ≤ j → j < ns → smallC M6 j
      · exact ⟨1, Or.inl ⟨rfl, z⟩⟩
      · exact ⟨0, Or.inr ⟨rfl, z⟩⟩
    have tw : J_steady_211_43 (L_steady_43 (tf + 1)) x1 (nI n) s6 = J_steady_234_43 (L_steady_43 (tf + 1)) x1 (nI n) yS s6 := by
      obtain ⟨o, q1, q2, q3⟩ := sm_small (M := M6) (σ := s6) (n := ns) ns 0 FU (by omega) n24 (by omega) (fun j h1 h2 => cg j h1 h2)
      unfold J_steady_211_43 J_steady_233_43 F_areSmall
      rw [t_isBad0 d6.1.1, ob_some, ifT (rfl : (0 : Int32) = 0), st6.1.2.1, show L_areSmall_2 FU (nI ns) 0 s6 = _ from q1]
      rcases hyS with ⟨rfl, z⟩ | ⟨rfl, z⟩
      · rw [q2 z, obS_inl, ob_some, ifF n1]
      · rw [q3 z, obS_inr, ob_some, ifT (rfl : (0 : Int32) = 0)]
    rw [tw]
    unfold J_steady_234_43
    refine RsO.seq n94 ((sk_upd (C := C) (B := B) (P := P) (mss := mss) (fss := fss) (S := S) (q := q) (A := A) (K1 := K1) (K2 := K2) (N := N) n24 (nI n) x1 (nI n) yS ns 0 FU FU true M6 s6 (by omega) (by omega) (by omega) w6 d6 st6 cg).mono (I' := skI) (A' := skA) (T' := sk2T) (nb' := 2) (by decide) (by decide) (by decide) (by decide)) (fun wx M7 s7 y k5' k6 fo => ?_) (fun a b3 M7 s7 k5' k6 g7 ⟨⟨l, o1, o2⟩, w7, d7, st7⟩ => ?_)
    · change KL_X0_seek_128 FU (nI n) 1 0 M6 = _ at k5'
      change L_steady_238 FU x1 (nI n) yS 0 s6 = _ at k6
      exact ⟨by rw [k5', obS_inr], .inl (), s7, by rw [k6, ob_some, t_isBad1 fo.ne, ob_some, ifF n1, t_isBad1 fo.ne, ob_some, ifF n1, nm_eq, t_43B fo.ne], Ft.rf _ _, rfl, rfl, rfl, rfl⟩
    subst o1
    change KL_X0_seek_128 FU (nI n) 1 0 M6 = _ at k5'
    change L_steady_238 FU x1 (nI n) yS 0 s6 = _ at k6
    rw [k5', obS_inl, k6, ob_some, t_isBad0 d7.1.1, ob_some, ifT (rfl : (0 : Int32) = 0)]
    have sb := ((z_solveBlocks w7 d7).im (Q2 := fun a _ M' σ' => a = .inl () ∧ RnW C B P mss fss V U S q A Wn K1 K2 N D M' σ' ∧ VaE 1 V U Wn D M' σ' ∧ SaR ns U M' σ') (fun a b M' σ' g ⟨g1, g2, g3⟩ => ⟨g1, g2, g3, st7.up g.1 g.2.1 rfl ⟨rfl, rfl⟩ rfl⟩)).mono (I' := skI) (A' := skA) (T' := sk2T) (nb' := 2) (by decide) (by decide) (by decide) (Nat.le_refl _)
    refine RsO.seq n94 sb (fun wx M8 s8 y k7 k8 fo => ?_) (fun a b4 M8 s8 k7 k8 g8 ⟨p1, w8, d8, st8⟩ => ?_)
    · exact ⟨by rw [k7, obS_inr], .inl (), s8, by rw [k8, ob_some, t_isBad1 fo.ne, ob_some, ifF n1, nm_eq, t_43B fo.ne], Ft.rf _ _, rfl, rfl, rfl, rfl⟩
    subst p1
    rw [k7, obS_inl, k8, ob_some, t_isBad0 d8.1.1, ob_some, ifT (rfl : (0 : Int32) = 0)]
    rcases hyS with ⟨rfl, z⟩ | ⟨rfl, z⟩
    · have l1 : l = true := o2.mpr ⟨rfl, z⟩
      rw [l1, ifF (show ¬ (if (true : Bool) = true then (1 : Int32) else 0) = 0 by decide), ifF n1]
      exact Or.inr ⟨_, _, M8, s8, rfl, rfl, RsK.rf, Or.inr ⟨_, rfl, rfl⟩, w8, d8, st8⟩
    · have l0 : l = false := by
        cases l with
        | false => rfl
        | true => exact absurd (o2.mp rfl).2 z
      rw [l0, ifT (show (if (false : Bool) = true then (1 : Int32) else 0) = 0 by decide), ifT (rfl : (0 : Int32) = 0), nm_eq, nm_eq, p1n]
      exact ih (n + 1) kf (tf + 1) M8 s8 (by omega) (by omega) (by omega) (by omega) w8 d8 st8
end STEADY
