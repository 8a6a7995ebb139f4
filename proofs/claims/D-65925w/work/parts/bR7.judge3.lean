/-! Layer B: judging, both sides alike -/
set_option maxRecDepth 100000
section JUDGE3
variable {C : PC} {P : Nat → Prop} {mss fss : List Nat} {D D' : FQ} {M M0 M' : CM} {σ σ0 σ' s : TS} {z7 : Nat → Nat} {B V I Bm K N E A Wn q qs v n a T m k w : Nat} {S : List Nat} {x y : Int32} {F : Nat → Nat} {b : Bool}
theorem mono_F (h : ∀ k, k < Wn → F k ≤ F (k + 1)) : ∀ (d w : Nat), w + d = Wn → F w ≤ F Wn
  | 0, w, e => by rw [show w = Wn by omega]; exact Nat.le_refl _
  | d + 1, w, e => Nat.le_trans (h w (by omega)) (mono_F h d (w + 1) (by omega))
/-- all actions when one was unlike -/
theorem tlW (W : FW C B P mss fss D M σ) (h : FP C P mss D M σ z7 V I Bm K N E A Wn q qs) (h45 : mI M 45 1 = 0 ∨ mI M 45 1 = 1) (f0 : F Wn = A) (fF : ∀ k, k < Wn → tA σ 146 k = nI (F k) ∧ F k ≤ F (k + 1) ∧ tA σ 147 k = nI (F (k + 1) - F k)) : ∀ (d w tf : Nat) (s : TS) (T : Nat), w + d = Wn → d < tf → JWf σ s → JT y T s → T + A ≤ 100000 + F w → ∃ s', L_judge_72 tf (nI (F w)) (nI w) s = some ((), s') ∧ JWf σ s' ∧ JT y (T + (A - F w)) s' := by
  have dW := h.2.2.2.2.2.1.1
  have mF := mono_F (F := F) (Wn := Wn) (fun k hk => (fF k hk).2.1)
  have cA := h.2.2.2.2.1.1.2.1
  intro d
  induction d with
  | zero =>
    intro w tf s T hw hf J t hT
    obtain ⟨tf, rfl⟩ : ∃ g, tf = g + 1 := ⟨tf - 1, by omega⟩
    obtain rfl : w = Wn := by omega
    refine ⟨s, ?_, J, by rw [f0, Nat.sub_self]; exact t⟩
    rw [L_judge_72, (J.1 148 rfl).1, dW.2.1, ifT ((bI_le (by omega) (by omega)).mpr (Nat.le_refl _))]
  | succ d ih =>
    intro w tf s T hw hf J t hT
    obtain ⟨tf, rfl⟩ : ∃ g, tf = g + 1 := ⟨tf - 1, by omega⟩
    obtain ⟨g1, g2, g3⟩ := fF w (by omega)
    have m1 := mF d (w + 1) (by omega)
    obtain ⟨q1, q2⟩ := jA W h h45 (by omega) g1 g2 g3 (by omega)
    have fu := fu2
    obtain ⟨s1, a1, a2, a3⟩ := jg_told (σ0 := σ) (y := y) (L := fun tf x s => L_judge_87 tf x (nI w) x s) (lab := fun j => 1000 + nI j) (ρ := nI (F (w + 1))) q1 (j0 := F w) (fun j h1 h2 => by
      obtain ⟨b, y1, -⟩ := q2 j h1 h2
      exact ⟨b, y1⟩) (F (w + 1) - F w) (F w) FU s T (by omega) (Nat.le_refl _) (by omega) J t (by omega)
    obtain ⟨s2, b1, b2, t', b3, b4, b5, b6⟩ := ih (w + 1) tf s1 _ (by omega) (by omega) a2 a3 (by omega)
    refine ⟨s2, ?_, b2, t', b3, b4, b5, by omega⟩
    have a1 : L_judge_87 FU (nI (F w)) (nI w) (nI (F w)) s = some (nI (F (w + 1)), s1) := a1
    rw [L_judge_72, (J.1 148 rfl).1, dW.2.1, ifF (fun z => by have := (bI_le (by omega) (by omega)).mp z; omega), ifT (inb_nI' (by omega) (by decide)), ix_nI (by omega), (J.1 146 rfl).2.2.1, g1, nm_eq, a1, ob_some, nm_eq, nI_addL]
    exact b1
/-- all actions, both sides -/
theorem lkW (W : FW C B P mss fss D M σ) (h : FP C P mss D M σ z7 V I Bm K N E A Wn q qs) (h45 : mI M 45 1 = 0 ∨ mI M 45 1 = 1) (f0 : F Wn = A) (fF : ∀ k, k < Wn → tA σ 146 k = nI (F k) ∧ F k ≤ F (k + 1) ∧ tA σ 147 k = nI (F (k + 1) - F k)) : ∀ (d w tf kf : Nat) (M1 : CM) (s : TS), w + d = Wn → d < tf → Ku M M1 → JWf σ s → tI s 173 = 0 →
    (∃ M' σ', KL_X0_judged_57 (kf + (A - F w)) (nI (F w)) M1 = KL_X0_judged_57 kf (nI A) M' ∧ L_judge_72 tf (nI (F w)) (nI w) s = some ((), σ') ∧ Ku M M' ∧ JWf σ σ' ∧ tI σ' 173 = 0) ∨
    ∃ M' σ' y, KL_X0_judged_57 (kf + (A - F w)) (nI (F w)) M1 = some (.inr (1 + y), M') ∧ L_judge_72 tf (nI (F w)) (nI w) s = some ((), σ') ∧ Ku M M' ∧ JWf σ σ' ∧ JT y (1 + A) σ' := by
  have dW := h.2.2.2.2.2.1.1
  have mF := mono_F (F := F) (Wn := Wn) (fun k hk => (fF k hk).2.1)
  have cA := h.2.2.2.2.1.1.2.1
  intro d
  induction d with
  | zero =>
    intro w tf kf M1 s hw hf Km J t
    obtain ⟨tf, rfl⟩ : ∃ g, tf = g + 1 := ⟨tf - 1, by omega⟩
    obtain rfl : w = Wn := by omega
    refine Or.inl ⟨M1, s, by rw [f0, Nat.sub_self]; rfl, ?_, Km, J, t⟩
    rw [L_judge_72, (J.1 148 rfl).1, dW.2.1, ifT ((bI_le (by omega) (by omega)).mpr (Nat.le_refl _))]
  | succ d ih =>
    intro w tf kf M1 s hw hf Km J t
    obtain ⟨tf, rfl⟩ : ∃ g, tf = g + 1 := ⟨tf - 1, by omega⟩
    obtain ⟨g1, g2, g3⟩ := fF w (by omega)
    have m1 := mF d (w + 1) (by omega)
    obtain ⟨q1, q2⟩ := jA W h h45 (by omega) g1 g2 g3 (by omega)
    have fu := fu2
    have st : ∀ p : Int32 × TS, L_judge_87 FU (nI (F w)) (nI w) (nI (F w)) s = some p → L_judge_72 (tf + 1) (nI (F w)) (nI w) s = L_judge_72 tf p.1 (nI (w + 1)) p.2 := fun p e => by
      rw [L_judge_72, (J.1 148 rfl).1, dW.2.1, ifF (fun z => by have := (bI_le (by omega) (by omega)).mp z; omega), ifT (inb_nI' (by omega) (by decide)), ix_nI (by omega), (J.1 146 rfl).2.2.1, g1, nm_eq, e, ob_some, nm_eq, nI_addL]
    have lk := jg_lock (σ0 := σ) (M0 := M) (L := fun tf x s => L_judge_87 tf x (nI w) x s) (KL := KL_X0_judged_57) (lab := fun j => 1000 + nI j) (ρ := nI (F (w + 1))) q1 (j0 := F w) q2 (F (w + 1) - F w) (F w) FU (kf + (A - F (w + 1))) M1 s (by omega) (Nat.le_refl _) (by omega) (by omega) Km J t
    rw [show kf + (A - F (w + 1)) + (F (w + 1) - F w) = kf + (A - F w) by omega] at lk
    rcases lk with ⟨M2, s1, a1, a2, a3, a4, a5⟩ | ⟨M2, s1, y, a1, a2, a3, a4, a5⟩
    · rw [a1, st _ a2]
      exact ih (w + 1) tf kf M2 s1 (by omega) (by omega) a3 a4 a5
    · right
      rw [a1, st _ a2]
      obtain ⟨s2, b1, b2, t', b3, b4, b5, b6⟩ := tlW W h h45 f0 fF d (w + 1) tf s1 _ (by omega) (by omega) a4 a5 (by omega)
      exact ⟨M2, s2, y, rfl, b1, a3, b2, t', b3, b4, b5, by omega⟩
/-- judge, both sides -/
theorem z_judged (W : FW C B P mss fss D M σ) (h : FP C P mss D M σ z7 V I Bm K N E A Wn q qs) (h45 : mI M 45 1 = 0 ∨ mI M 45 1 = 1) (h171 : tI σ 171 = nI 0) (h108 : ¬ tI σ 108 = 0) : ∃ r M' σ', K_X0_judged M = some (r, M') ∧ F_judge σ = some (r, σ') ∧ Ku M M' ∧ JWf σ σ' := by
  have fu := fu2
  have E120 := h.2.2.2.1.1.2.2.1
  have cA := h.2.2.2.2.1.1.2.1
  have dW := h.2.2.2.2.2.1.1
  have q24 := h.2.2.2.2.2.2.1.1.2.2
  have V96 := h.1.2.1.1
  obtain ⟨F, f00, f0, fF⟩ := h.2.2.2.2.2.1.2.2
  have mA := mono_F (F := F) (Wn := Wn) (fun k hk => (fF k hk).2.1) Wn 0 (Nat.zero_add _)
  obtain ⟨e1, e2, e3⟩ := jE W h h45
  obtain ⟨r1, r2, r3⟩ := jR W h h45
  obtain ⟨p1, p2, p3⟩ := jP W h h45
  obtain ⟨c1, c2, c3⟩ := jS W h h45
  obtain ⟨s3, hs3⟩ : ∃ q, q = tsI (tsI σ 172 0) 173 0 := ⟨_, rfl⟩
  have J3 : JWf σ s3 := ⟨by rw [hs3]; exact ((Ft.rf _ σ).p_tsI rfl).p_tsI rfl, by rw [hs3]; exact h171⟩
  have t3 : tI s3 173 = 0 := by rw [hs3]; rfl
  have K0 : Ku M M := Ku.rf h45
  -- what is left when one was told
  have fin : ∀ y T s, JWf σ s → JT y T s → T ≤ 1000 → (if tI s 173 = 0 then some ((0 : Int32), s) else some (1 + tI s 172, s)) = some (1 + y, s) := fun y T s J t hT => by
    obtain ⟨h1, t', t1, t2, t3⟩ := t
    rw [ifF (fun z => by rw [t1] at z; have := (bI_eq (b := 0) (by omega) (by decide)).mp z; omega), h1]
  have x4 : ∀ y T s, JWf σ s → JT y T s → T ≤ 800 → ∃ s', (ob (L_judge_301 FU 0 s) fun _ s152 => if tI s152 173 = 0 then some ((0 : Int32), s152) else some (1 + tI s152 172, s152)) = some (1 + y, s') ∧ JWf σ s' := fun y T s J t hT => by
    obtain ⟨s', a1, a2, a3⟩ := jg_told (y := y) c1 (j0 := 0) (fun j h1 h2 => by obtain ⟨b, z, -⟩ := c3 j h1 h2; exact ⟨b, z⟩) V 0 FU s T (by omega) (Nat.le_refl _) (by omega) J t (by omega)
    exact ⟨s', by rw [show L_judge_301 FU 0 s = _ from a1, ob_some]; exact fin y _ s' a2 a3 (by omega), a2⟩
  have x3 : ∀ y T s, JWf σ s → JT y T s → T ≤ 700 → ∃ s', (ob (L_judge_235 FU 0 s) fun _ s125 => ob (L_judge_301 FU 0 s125) fun _ s152 => if tI s152 173 = 0 then some ((0 : Int32), s152) else some (1 + tI s152 172, s152)) = some (1 + y, s') ∧ JWf σ s' := fun y T s J t hT => by
    obtain ⟨s', a1, a2, a3⟩ := jg_told (y := y) p1 (j0 := 0) (fun j h1 h2 => by obtain ⟨b, z, -⟩ := p3 j h1 h2; exact ⟨b, z⟩) V 0 FU s T (by omega) (Nat.le_refl _) (by omega) J t (by omega)
    obtain ⟨s2, b1, b2⟩ := x4 y _ s' a2 a3 (by omega)
    exact ⟨s2, by rw [show L_judge_235 FU 0 s = _ from a1, ob_some]; exact b1, b2⟩
  have x2 : ∀ y T s, JWf σ s → JT y T s → T ≤ 600 → ∃ s', (ob (L_judge_157 FU 0 s) fun _ s95 => ob (L_judge_235 FU 0 s95) fun _ s125 => ob (L_judge_301 FU 0 s125) fun _ s152 => if tI s152 173 = 0 then some ((0 : Int32), s152) else some (1 + tI s152 172, s152)) = some (1 + y, s') ∧ JWf σ s' := fun y T s J t hT => by
    obtain ⟨s', a1, a2, a3⟩ := jg_told (y := y) r1 (j0 := 0) (fun j h1 h2 => by obtain ⟨b, z, -⟩ := r3 j h1 h2; exact ⟨b, z⟩) q 0 FU s T (by omega) (Nat.le_refl _) (by omega) J t (by omega)
    obtain ⟨s2, b1, b2⟩ := x3 y _ s' a2 a3 (by omega)
    exact ⟨s2, by rw [show L_judge_157 FU 0 s = _ from a1, ob_some]; exact b1, b2⟩
  have z0 : (0 : Int32) = nI (F 0) := by rw [f00]; rfl
  have x1 : ∀ y T s, JWf σ s → JT y T s → T ≤ 300 → ∃ s', (ob (L_judge_72 FU 0 0 s) fun _ s64 => ob (L_judge_157 FU 0 s64) fun _ s95 => ob (L_judge_235 FU 0 s95) fun _ s125 => ob (L_judge_301 FU 0 s125) fun _ s152 => if tI s152 173 = 0 then some ((0 : Int32), s152) else some (1 + tI s152 172, s152)) = some (1 + y, s') ∧ JWf σ s' := fun y T s J t hT => by
    obtain ⟨s', a1, a2, a3⟩ := tlW W h h45 f0 fF Wn 0 FU s T (by omega) (by omega) J t (by omega)
    obtain ⟨s2, b1, b2⟩ := x2 y _ s' a2 a3 (by omega)
    rw [f00] at a1
    exact ⟨s2, by rw [show L_judge_72 FU 0 0 s = _ from a1, ob_some]; exact b1, b2⟩
  have tj : F_judge σ = ob (L_judge_22 FU 0 s3) fun _ s27 => ob (L_judge_72 FU 0 0 s27) fun _ s64 => ob (L_judge_157 FU 0 s64) fun _ s95 => ob (L_judge_235 FU 0 s95) fun _ s125 => ob (L_judge_301 FU 0 s125) fun _ s152 => if tI s152 173 = 0 then some ((0 : Int32), s152) else some (1 + tI s152 172, s152) := by
    rw [F_judge, ifF h108, nm_eq, nm_eq, ← hs3]
  rw [tj, K_X0_judged]
  have fe : ∀ n, n ≤ 1000 → ∃ g, FU - n = g + 1 ∧ FU - n + n = FU := fun n hn => ⟨FU - n - 1, by omega, by omega⟩
  obtain ⟨gE, gE1, gE2⟩ := fe E (by omega)
  have lk := jg_lock e1 (j0 := 0) e3 E 0 FU (FU - E) M s3 (by omega) (Nat.le_refl _) (by omega) (by omega) K0 J3 t3
  rw [gE2] at lk
  rcases lk with ⟨M1, s1, a1, a2, a3, a4, a5⟩ | ⟨M1, s1, y, a1, a2, a3, a4, a5⟩
  · rw [gE1, e2 gE M1 a3] at a1
    rw [show KL_X0_judged_2 FU 0 M = _ from a1, obS_inl, show L_judge_22 FU 0 s3 = _ from a2, ob_some]
    obtain ⟨gA, gA1, gA2⟩ := fe A (by omega)
    have eA : ∀ M', Ku M M' → KL_X0_judged_57 (gA + 1) (nI A) M' = some (.inl (), M') := fun M' Km => by
      rw [KL_X0_judged_57, Km.2.2.1 37 1 (by omega), h.2.2.2.2.1.1.1, ifT ((bI_le (by omega) (by omega)).mpr (Nat.le_refl _))]
    have lk := lkW W h h45 f0 fF Wn 0 FU (FU - A) M1 s1 (by omega) (by omega) a3 a4 a5
    rw [f00, Nat.sub_zero, gA2] at lk
    rcases lk with ⟨M2, s2, b1, b2, b3, b4, b5⟩ | ⟨M2, s2, y, b1, b2, b3, b4, b5⟩
    · rw [gA1, eA M2 b3] at b1
      rw [show KL_X0_judged_57 FU 0 M1 = _ from b1, obS_inl, show L_judge_72 FU 0 0 s1 = _ from b2, ob_some]
      obtain ⟨gR, gR1, gR2⟩ := fe q (by omega)
      have lk := jg_lock r1 (j0 := 0) r3 q 0 FU (FU - q) M2 s2 (by omega) (Nat.le_refl _) (by omega) (by omega) b3 b4 b5
      rw [gR2] at lk
      rcases lk with ⟨M3, s4, d1, d2, d3, d4, d5⟩ | ⟨M3, s4, y, d1, d2, d3, d4, d5⟩
      · rw [gR1, r2 gR M3 d3] at d1
        rw [show KL_X0_judged_114 FU 0 M2 = _ from d1, obS_inl, show L_judge_157 FU 0 s2 = _ from d2, ob_some]
        obtain ⟨gV, gV1, gV2⟩ := fe V (by omega)
        have lk := jg_lock p1 (j0 := 0) p3 V 0 FU (FU - V) M3 s4 (by omega) (Nat.le_refl _) (by omega) (by omega) d3 d4 d5
        rw [gV2] at lk
        rcases lk with ⟨M4, s5, g1, g2, g3, g4, g5⟩ | ⟨M4, s5, y, g1, g2, g3, g4, g5⟩
        · rw [gV1, p2 gV M4 g3] at g1
          rw [show KL_X0_judged_175 FU 0 M3 = _ from g1, obS_inl, show L_judge_235 FU 0 s4 = _ from g2, ob_some]
          have lk := jg_lock c1 (j0 := 0) c3 V 0 FU (FU - V) M4 s5 (by omega) (Nat.le_refl _) (by omega) (by omega) g3 g4 g5
          rw [gV2] at lk
          rcases lk with ⟨M5, s6, i1, i2, i3, i4, i5⟩ | ⟨M5, s6, y, i1, i2, i3, i4, i5⟩
          · rw [gV1, c2 gV M5 i3] at i1
            rw [show KL_X0_judged_254 FU 0 M4 = _ from i1, obS_inl, show L_judge_301 FU 0 s5 = _ from i2, ob_some, ifT i5]
            exact ⟨0, M5, s6, rfl, rfl, i3, i4⟩
          · rw [show KL_X0_judged_254 FU 0 M4 = _ from i1, obS_inr, show L_judge_301 FU 0 s5 = _ from i2, ob_some, fin y _ s6 i4 i5 (by omega)]
            exact ⟨1 + y, M5, s6, rfl, rfl, i3, i4⟩
        · obtain ⟨s6, u1, u2⟩ := x4 y _ s5 g4 g5 (by omega)
          rw [show KL_X0_judged_175 FU 0 M3 = _ from g1, obS_inr, show L_judge_235 FU 0 s4 = _ from g2, ob_some, u1]
          exact ⟨1 + y, M4, s6, rfl, rfl, g3, u2⟩
      · obtain ⟨s6, u1, u2⟩ := x3 y _ s4 d4 d5 (by omega)
        rw [show KL_X0_judged_114 FU 0 M2 = _ from d1, obS_inr, show L_judge_157 FU 0 s2 = _ from d2, ob_some, u1]
        exact ⟨1 + y, M3, s6, rfl, rfl, d3, u2⟩
    · obtain ⟨s6, u1, u2⟩ := x2 y _ s2 b4 b5 (by omega)
      rw [show KL_X0_judged_57 FU 0 M1 = _ from b1, obS_inr, show L_judge_72 FU 0 0 s1 = _ from b2, ob_some, u1]
      exact ⟨1 + y, M2, s6, rfl, rfl, b3, u2⟩
  · obtain ⟨s6, u1, u2⟩ := x1 y _ s1 a4 a5 (by omega)
    rw [show KL_X0_judged_2 FU 0 M = _ from a1, obS_inr, show L_judge_22 FU 0 s3 = _ from a2, ob_some, u1]
    exact ⟨1 + y, M1, s6, rfl, rfl, a3, u2⟩
end JUDGE3
