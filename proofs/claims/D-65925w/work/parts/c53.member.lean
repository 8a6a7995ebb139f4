/-! Layer B: the call member: faces that are joined -/
set_option maxRecDepth 100000
section MEMB
variable {C : PC} {B : Nat} {P : Nat → Prop} {mss fss : List Nat} {D : FQ} {M : CM} {σ : TS} {V I Bm K N E A Wn q qs f g n c : Nat} {z7 : Nat → Nat} {x y : Int32}
/-- an instance: its class, whether that joins -/
theorem FlY.inst (X : FlY z7 C P D mss M σ V I Bm) (W : FW C B P mss fss D M σ) (hn : n < I) : mk M ((pl D 99).getD n 0) = 14 ∧ K_J2_get 99 (nI n) M = some ((pl D 99).getD n 0, M) ∧ ∃ k, mR M 2602 ((pl D 99).getD n 0) = mss.getD k 0 ∧ mk M (mss.getD k 0) = 10 ∧ ((mI M 1801 (mss.getD k 0) = 0 ∧ tA σ 44 (ix (tA σ 74 n)) = 0) ∨ (mI M 1801 (mss.getD k 0) = 1 ∧ tA σ 44 (ix (tA σ 74 n)) = 1)) := by
  have l99 := X.1.1.2.1
  obtain ⟨q1, q2, q3⟩ := W.2.1.2.1 99 (by decide) n (by omega)
  obtain ⟨a1, a2, ⟨k, k1, k2, k3⟩, -⟩ := X.1.2.1 n hn
  obtain ⟨c1, c2, -⟩ := W.1.2.2.2.2.2.1.2.1 k k1
  have h24 := W.1.2.2.2.2.1.1.1
  refine ⟨q1, ls_get (W.2.1.1 99 (by decide)).1 (by omega), k, k2, c1.1.2, ?_⟩
  rw [k3, ix_nI (by omega)]
  exact c2
theorem k_aloneJ (J : JnX M σ) (c2 : mI M 16 1 = nI I) (I200 : I ≤ 200) (hf : f < 400 ∧ f / 2 < I) (h0 : hdT σ f = f) : (alF σ I f ∧ K_X0_isAlone (nI f) M = some (0, M)) ∨ (¬ alF σ I f ∧ K_X0_isAlone (nI f) M = some (1, M)) := by
  obtain ⟨-, p1, -, -, -⟩ := z_hd J hf.1
  rw [h0] at p1
  have loop : ∀ d g kf, g + d = 2 * I → d < kf → ((∃ u, g ≤ u ∧ u < 2 * I ∧ u ≠ f ∧ hdT σ u = f) ∧ KL_X0_isAlone_2 kf (nI f) (nI g) M = some (.inr 0, M)) ∨ (¬ (∃ u, g ≤ u ∧ u < 2 * I ∧ u ≠ f ∧ hdT σ u = f) ∧ KL_X0_isAlone_2 kf (nI f) (nI g) M = some (.inl (), M)) := by
    intro d
    induction d with
    | zero =>
      intro g kf hg hk
      obtain ⟨kf, rfl⟩ : ∃ g, kf = g + 1 := ⟨kf - 1, by omega⟩
      refine Or.inr ⟨fun ⟨u, u1, u2, _⟩ => by omega, ?_⟩
      unfold KL_X0_isAlone_2
      rw [c2, n_dbl, ifT ((bI_le (by omega) (by omega)).mpr (by omega))]
    | succ d ih =>
      intro g kf hg hk
      obtain ⟨kf, rfl⟩ : ∃ g, kf = g + 1 := ⟨kf - 1, by omega⟩
      unfold KL_X0_isAlone_2
      rw [c2, n_dbl, ifF (fun z => by have := (bI_le (by omega) (by omega)).mp z; omega)]
      have nx := ih (g + 1) kf (by omega) (by omega)
      by_cases q : g = f
      · rw [ifT (show nI g = nI f by rw [q]), nm_eq, nI_addL]
        rcases nx with ⟨⟨u, u1, u2⟩, n2⟩ | ⟨n1, n2⟩
        · exact Or.inl ⟨⟨u, by omega, u2⟩, n2⟩
        · exact Or.inr ⟨fun ⟨u, u1, u2, u3, u4⟩ => n1 ⟨u, by omega, u2, u3, u4⟩, n2⟩
      · rw [ifF (fun z => q ((bI_eq (by omega) (by omega)).mp z))]
        obtain ⟨q0, q1, -, -, -⟩ := z_hd J (f := g) (by omega)
        rw [q1, ob_some, p1, ob_some]
        by_cases y : hdT σ g = f
        · rw [ifT (show nI (hdT σ g) = nI f by rw [y])]
          exact Or.inl ⟨⟨g, Nat.le_refl _, by omega, q, y⟩, rfl⟩
        · rw [ifF (fun z => y ((bI_eq (by omega) (by omega)).mp z)), nm_eq, nI_addL]
          rcases nx with ⟨⟨u, u1, u2⟩, n2⟩ | ⟨n1, n2⟩
          · exact Or.inl ⟨⟨u, by omega, u2⟩, n2⟩
          · refine Or.inr ⟨fun ⟨u, u1, u2, u3, u4⟩ => ?_, n2⟩
            by_cases z : u = g
            · rw [z] at u4; exact y u4
            · exact n1 ⟨u, by omega, u2, u3, u4⟩
  have hFU : 400 < FU := by unfold FU; decide
  unfold K_X0_isAlone
  rcases loop (2 * I) 0 FU (Nat.zero_add _) (by omega) with ⟨⟨u, u1, u2⟩, n2⟩ | ⟨n1, n2⟩
  · refine Or.inl ⟨⟨u, u2⟩, ?_⟩
    rw [show KL_X0_isAlone_2 FU (nI f) 0 M = some (.inr 0, M) from n2, obS_inr]
  · refine Or.inr ⟨fun ⟨u, u2⟩ => n1 ⟨u, Nat.zero_le _, u2⟩, ?_⟩
    rw [show KL_X0_isAlone_2 FU (nI f) 0 M = some (.inl (), M) from n2, obS_inl]
/-- a face of a set, both sides -/
theorem z_mem5 (J : JnX M σ) (c2 : mI M 16 1 = nI I) (t2 : tI σ 82 = nI I) (I200 : I ≤ 200) {j h : Nat} (hj : j < 400) (h157 : tA σ 157 j = nI h) (hh : h < 400) : ∀ (d g c kf tf : Nat), g + d = 2 * I → d < kf → d < tf → c ≤ g → ∃ r, KL_X0_memberOf_5 kf (nI h) y (nI c) (nI g) M = some (r, M) ∧ L_member_39 tf (nI j) y (nI c) (nI g) σ = some (r, σ) := by
  intro d
  induction d with
  | zero =>
    intro g c kf tf hg hk ht hc
    obtain ⟨kf, rfl⟩ : ∃ g, kf = g + 1 := ⟨kf - 1, by omega⟩
    obtain ⟨tf, rfl⟩ : ∃ g, tf = g + 1 := ⟨tf - 1, by omega⟩
    have le : nI (2 * I) ≤ nI g := (bI_le (by omega) (by omega)).mpr (by omega)
    exact ⟨_, by rw [KL_X0_memberOf_5, c2, n_dbl, ifT le], by rw [L_member_39, t2, n_dbl, ifT le]⟩
  | succ d ih =>
    intro g c kf tf hg hk ht hc
    obtain ⟨kf, rfl⟩ : ∃ g, kf = g + 1 := ⟨kf - 1, by omega⟩
    obtain ⟨tf, rfl⟩ : ∃ g, tf = g + 1 := ⟨tf - 1, by omega⟩
    have le : ¬ nI (2 * I) ≤ nI g := fun z => by have := (bI_le (by omega) (by omega)).mp z; omega
    obtain ⟨q0, q1, q2, -⟩ := z_hd J (f := g) (by omega)
    rw [KL_X0_memberOf_5, L_member_39, c2, t2, n_dbl, ifF le, ifF le, q1, ob_some, q2, ob_some, ifT (inb_nI' hj (by decide)), ix_nI (by omega), h157]
    by_cases z : nI (hdT σ g) = nI h
    · rw [ifT z, ifT z]
      by_cases z2 : nI c = y
      · rw [ifT z2, ifT z2]; exact ⟨_, rfl, rfl⟩
      · rw [ifF z2, ifF z2, nm_eq, nm_eq, nm_eq, nm_eq, nI_addL, nI_addL]
        exact ih (g + 1) (c + 1) kf tf (by omega) (by omega) (by omega) (by omega)
    · rw [ifF z, ifF z, nm_eq, nm_eq, nI_addL]
      exact ih (g + 1) c kf tf (by omega) (by omega) (by omega) (by omega)
/-- a face that isn't there -/
theorem k_mem5 (J : JnX M σ) (c2 : mI M 16 1 = nI I) (I200 : I ≤ 200) (hy : y < 0) {h : Nat} (hh : h < 400) : ∀ (d g c kf : Nat), g + d = 2 * I → d < kf → c ≤ g → KL_X0_memberOf_5 kf (nI h) y (nI c) (nI g) M = some (.inl (), M) := by
  intro d
  induction d with
  | zero =>
    intro g c kf hg hk hc
    obtain ⟨kf, rfl⟩ : ∃ g, kf = g + 1 := ⟨kf - 1, by omega⟩
    rw [KL_X0_memberOf_5, c2, n_dbl, ifT ((bI_le (by omega) (by omega)).mpr (by omega))]
  | succ d ih =>
    intro g c kf hg hk hc
    obtain ⟨kf, rfl⟩ : ∃ g, kf = g + 1 := ⟨kf - 1, by omega⟩
    have le : ¬ nI (2 * I) ≤ nI g := fun z => by have := (bI_le (by omega) (by omega)).mp z; omega
    obtain ⟨q0, q1, -⟩ := z_hd J (f := g) (by omega)
    rw [KL_X0_memberOf_5, c2, n_dbl, ifF le, q1, ob_some]
    by_cases z : nI (hdT σ g) = nI h
    · rw [ifT z, ifF (show ¬ nI c = y from fun e => by rw [← e] at hy; exact n_neg (by omega) hy), nm_eq, nm_eq, nI_addL, nI_addL]
      exact ih (g + 1) (c + 1) kf (by omega) (by omega) (by omega)
    · rw [ifF z, nm_eq, nI_addL]
      exact ih (g + 1) c kf (by omega) (by omega) (by omega)
/-- the set x -/
theorem k_mem15 (X : FlY z7 C P D mss M σ V I Bm) (W : FW C B P mss fss D M σ) (J : JnX M σ) {h : Nat → Nat} (h1 : ∀ j, j < q → h j < 2 * I ∧ isHd σ I (h j)) (h2 : ∀ i j, i < j → j < q → h i < h j) (h3 : ∀ f, f < 2 * I → isHd σ I f → ∃ j, j < q ∧ h j = f) : ∀ (d g c kf : Nat), g + d = 2 * I → d < kf → c ≤ q → (∀ j, j < c → h j < g) → (∀ j, c ≤ j → j < q → g ≤ h j) →
    (∀ j, c ≤ j → j < q → x = nI j → KL_X0_member_15 kf x y (nI c) (nI g) M = ob (K_X0_memberOf (nI (h j)) y M) fun r M1 => some (.inr r, M1)) ∧ ((∀ j, c ≤ j → j < q → x ≠ nI j) → KL_X0_member_15 kf x y (nI c) (nI g) M = some (.inl (), M)) := by
  have c2 := X.2.2.2.1.2
  have I200 := X.2.1.2.1
  intro d
  induction d with
  | zero =>
    intro g c kf hg hk hc g1 g2
    obtain ⟨kf, rfl⟩ : ∃ g, kf = g + 1 := ⟨kf - 1, by omega⟩
    refine ⟨fun j j1 j2 _ => ?_, fun _ => by rw [KL_X0_member_15, c2, n_dbl, ifT ((bI_le (by omega) (by omega)).mpr (by omega))]⟩
    have := g2 j j1 j2
    have := (h1 j j2).1
    omega
  | succ d ih =>
    intro g c kf hg hk hc g1 g2
    obtain ⟨kf, rfl⟩ : ∃ g, kf = g + 1 := ⟨kf - 1, by omega⟩
    have le : ¬ nI (2 * I) ≤ nI g := fun z => by have := (bI_le (by omega) (by omega)).mp z; omega
    obtain ⟨k14, gt, k, b1, b2, b3⟩ := X.inst W (n := g / 2) (by omega)
    obtain ⟨q0, q1, q2, -⟩ := z_hd J (f := g) (by omega)
    have no : ¬ isHd σ I g → (∀ j, c ≤ j → j < q → x = nI j → KL_X0_member_15 kf x y (nI c) (nI (g + 1)) M = ob (K_X0_memberOf (nI (h j)) y M) fun r M1 => some (.inr r, M1)) ∧ ((∀ j, c ≤ j → j < q → x ≠ nI j) → KL_X0_member_15 kf x y (nI c) (nI (g + 1)) M = some (.inl (), M)) := fun nh => by
      refine ih (g + 1) c kf (by omega) (by omega) hc (fun j hj => by have := g1 j hj; omega) (fun j j1 j2 => ?_)
      have := g2 j j1 j2
      have : h j ≠ g := fun z => nh (by rw [← z]; exact (h1 j j2).2)
      omega
    have hd : KL_X0_member_15 (kf + 1) x y (nI c) (nI g) M = if mI M 1801 (mss.getD k 0) = 0 then KL_X0_member_15 kf x y (nI c) (nI (g + 1)) M else if nI (hdT σ g) = nI g then ob (K_X0_isAlone (nI g) M) fun r M16 => if r = 0 then (if nI c = x then ob (K_X0_memberOf (nI g) y M16) fun r23 M22 => some (.inr r23, M22) else KL_X0_member_15 kf x y (nI (c + 1)) (nI (g + 1)) M16) else KL_X0_member_15 kf x y (nI c) (nI (g + 1)) M16 else KL_X0_member_15 kf x y (nI c) (nI (g + 1)) M := by
      rw [KL_X0_member_15, c2, n_dbl, ifF le, n_half g (by omega), gt, ob_some, ifT (Or.inr k14), ifT k14, b1, ifT b2, q1, ob_some]
      simp only [nm_eq, nI_addL]
    rw [hd]
    rcases b3 with ⟨b3, b4⟩ | ⟨b3, b4⟩
    · rw [ifT b3]
      exact no (fun z => by rw [z.1] at b4; exact absurd b4 (by decide))
    · rw [ifF (by rw [b3]; decide)]
      by_cases z : hdT σ g = g
      · rw [ifT (show nI (hdT σ g) = nI g by rw [z])]
        rcases k_aloneJ J c2 I200 ⟨by omega, by omega⟩ z with ⟨al, ka⟩ | ⟨al, ka⟩
        · have hh : isHd σ I g := ⟨b4, z, al⟩
          obtain ⟨j, j1, j2⟩ := h3 g (by omega) hh
          have jc : j = c := by
            rcases Nat.lt_trichotomy j c with y | y | y
            · have := g1 j y; omega
            · exact y
            · have := g2 c (Nat.le_refl _) (by omega)
              have := h2 c j y j1
              omega
          subst jc
          rw [ka, ob_some, ifT (rfl : (0 : Int32) = 0)]
          obtain ⟨i1, i2⟩ := ih (g + 1) (j + 1) kf (by omega) (by omega) (by omega) (fun i hi => by
            by_cases e : i = j
            · rw [e]; omega
            · have := g1 i (by omega); omega) (fun i i1 i2 => by have := h2 j i (by omega) i2; omega)
          by_cases e : nI j = x
          · rw [ifT e]
            refine ⟨fun i i1 i2 i3 => ?_, fun z => absurd e.symm (z j (Nat.le_refl _) j1)⟩
            have : i = j := (bI_eq (by omega) (by omega)).mp (i3.symm.trans e.symm)
            rw [this, j2]
          · rw [ifF e]
            refine ⟨fun i i3 i4 i5 => i1 i (by
              have : i ≠ j := fun z => e (by rw [← z]; exact i5.symm)
              omega) i4 i5, fun z => i2 (fun i i3 i4 => z i (by omega) i4)⟩
        · rw [ka, ob_some, ifF (by decide)]
          exact no (fun z => al z.2.2)
      · rw [ifF (fun e => z ((bI_eq (by omega) (by omega)).mp e))]
        exact no (fun y => z y.2.1)
/-- the call member -/
theorem z_member_n (h : mI M 30 1 = 0 ∧ tI σ 108 = 0) (x y : Int32) : AcR M σ (K_X0_member x y M) (F_member x y σ) := by
  unfold K_X0_member F_member
  rw [ifT h.1, ifT h.2]; exact AcR.st _
theorem z_memberA (fp : FP C P mss D M σ z7 V I Bm K N E A Wn q qs) (W : FW C B P mss fss D M σ) (h : ¬ mI M 30 1 = 0 ∧ ¬ tI σ 108 = 0) (x y : Int32) : AcR M σ (K_X0_member x y M) (F_member x y σ) := by
  have X := fp.1
  obtain ⟨J, ⟨t156, qs2, hf, s1, s2, s3⟩, -⟩ := fp.2.2.2.2.2.2.2
  have I200 := X.2.1.2.1
  have fu := FUb
  obtain ⟨m1, m2⟩ := k_mem15 (x := x) (y := y) X W J (fun j hj => ⟨(s1 j hj).2.1, (s1 j hj).2.2⟩) s2 s3 (2 * I) 0 0 FU (by omega) (by omega) (Nat.zero_le _) (fun j hj => absurd hj (Nat.not_lt_zero _)) (fun j _ _ => Nat.zero_le _)
  have none_ : (∀ j, j < qs → x ≠ nI j) → K_X0_member x y M = some (-2, M) := fun z => by
    unfold K_X0_member
    rw [ifF h.1, show (0 : Int32) = nI 0 from rfl, m2 (fun j _ j2 => z j j2), obS_inl]
  unfold F_member
  rw [ifF h.2]
  by_cases x0 : x < 0
  · rw [ifT x0, none_ (fun j hj z => by rw [z] at x0; exact n_neg (by omega) x0)]; exact AcR.st _
  rw [ifF x0, t156]
  obtain ⟨j, rfl, j2⟩ := bI_of (Int32.not_lt.mp x0)
  by_cases xq : nI qs ≤ nI j
  · have := (bI_le (by omega) j2).mp xq
    rw [ifT xq, none_ (fun i hi z => by have := (bI_eq j2 (by omega)).mp z; omega)]; exact AcR.st _
  rw [ifF xq]
  have hj : j < qs := Nat.lt_of_not_le (fun z => xq ((bI_le (by omega) j2).mpr z))
  obtain ⟨a1, a2, a3⟩ := s1 j hj
  have mm : K_X0_member (nI j) y M = obS (ob (K_X0_memberOf (nI (hf j)) y M) fun r M1 => some (.inr r, M1)) (fun r36 M33 => some (r36, M33)) fun (_ : Unit) M33 => some (-2, M33) := by
    unfold K_X0_member
    rw [ifF h.1, show (0 : Int32) = nI 0 from rfl, m1 j (Nat.zero_le _) hj rfl]
  by_cases y0 : (0 : Int32) ≤ y
  · obtain ⟨r, r1, r2⟩ := z_mem5 (y := y) J X.2.2.2.1.2 X.2.2.1.2.1 I200 (by omega) a1 (by omega) (2 * I - hf j) (hf j) 0 FU FU (by omega) (by omega) (by omega) (Nat.zero_le _)
    rw [mm, ifT y0, ifT (inb_nI' (by omega) (by decide)), ix_nI (by omega), nm_eq, a1]
    unfold K_X0_memberOf
    rw [show (0 : Int32) = nI 0 from rfl, r1, r2]
    cases r with
    | inl r => rw [obS_inl, obS_inl, ob_some, obS_inr]; exact AcR.st _
    | inr r => rw [obS_inr, obS_inr, ob_some, obS_inr]; exact AcR.st _
  · have e := k_mem5 (y := y) J X.2.2.2.1.2 I200 (Int32.not_le.mp y0) (h := hf j) (by omega) (2 * I - hf j) (hf j) 0 FU (by omega) (by omega) (Nat.zero_le _)
    rw [mm, ifF y0]
    unfold K_X0_memberOf
    rw [show (0 : Int32) = nI 0 from rfl, e, obS_inl, ob_some, obS_inr]; exact AcR.st _
end MEMB
