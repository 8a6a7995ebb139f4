/-! Layer B: the calls that read values: value, relation, time, method, count -/
set_option maxRecDepth 100000
section RUNACC
variable {C : PC} {B : Nat} {P : Nat → Prop} {mss fss : List Nat} {V U S q A Wn K1 K2 N e u v b nb I Bm K Nf E qs : Nat} {z7 : Nat → Nat} {D : FQ} {M : CM} {σ : TS} {x y x2 : Int32}
/-- no run has begun -/
abbrev NoRun (M : CM) (σ : TS) : Prop := mI M 91 1 = 0 ∧ tI σ 110 = 0
/-- a run has begun -/
abbrev IsRun (x2 : Int32) (C : PC) (B : Nat) (P : Nat → Prop) (mss fss : List Nat) (D : FQ) (M : CM) (σ : TS) : Prop := (¬ mI M 91 1 = 0 ∧ ¬ tI σ 110 = 0) ∧ ∃ V U S q A Wn K1 K2 N, RnW C B P mss fss V U S q A Wn K1 K2 N D M σ ∧ VaE x2 V U Wn D M σ
theorem z_time (h : NoRun M σ ∨ ((¬ mI M 91 1 = 0 ∧ ¬ tI σ 110 = 0) ∧ mI M 85 1 = tI σ 165)) : AcR M σ (K_X0_time M) (F_time σ) := by
  unfold K_X0_time F_time
  rcases h with h | ⟨h, e⟩
  · rw [ifT h.1, ifT h.2]; exact AcR.st _
  · rw [ifF h.1, ifF h.2, e]; exact AcR.st _
theorem z_relation (h : NoRun M σ ∨ IsRun x2 C B P mss fss D M σ) (x : Int32) : AcR M σ (K_X0_relation x M) (F_relation x σ) := by
  unfold K_X0_relation F_relation
  rcases h with h | ⟨h, V, U, S, q, A, Wn, K1, K2, N, w, d⟩
  · rw [ifT h.1, ifT h.2]; exact AcR.st _
  rw [ifF h.1, ifF h.2]
  obtain ⟨⟨-, -, -, -, q24, -⟩, -, -, ⟨h41, h154⟩, ⟨⟨h39, h148⟩, W12, Wl⟩, -⟩ := w.st
  obtain ⟨-, -, -, d4, -, d6⟩ := d
  have r56 : x < 1000 ∨ (¬ x < 0 ∧ 1000 ≤ x) → KJ_X0_relation_56 x M = if x < 0 then some (-2, M) else if x < tI σ 154 then (if tA σ 163 (ix x) = 0 then some (0, M) else some (1, M)) else some (-2, M) := fun _ => by
    unfold KJ_X0_relation_56
    by_cases z : x < 0
    · rw [ifT z, ifT z]
    rw [ifF z, ifF z, h41, h154]
    obtain ⟨r, rfl, r2⟩ := bI_of (Int32.not_lt.mp z)
    by_cases z2 : nI r < nI q
    · have hr := (bI_lt r2 (by omega)).mp z2
      rw [ifT z2, ifT z2, ifT (inb_nI' (by omega) (by decide)), ix_nI r2, (d4 r (by omega) (by rw [h154]; exact z2)).1]
    · rw [ifF z2, ifF z2]
  by_cases x0 : x < 1000
  · rw [ifT x0, ifT x0, r56 (Or.inl x0)]
    by_cases z : x < 0
    · rw [ifT z, ifT z]; exact AcR.st _
    rw [ifF z, ifF z]
    obtain ⟨r, rfl, r2⟩ := bI_of (Int32.not_lt.mp z)
    by_cases z2 : nI r < tI σ 154
    · have hr : r < q := (bI_lt r2 (by omega)).mp (by rw [← h154]; exact z2)
      rw [ifT z2, ifT z2, ifT (inb_nI' (by omega) (by decide))]
      by_cases z3 : tA σ 163 (ix (nI r)) = 0
      · rw [ifT z3, ifT z3]; exact AcR.st _
      · rw [ifF z3, ifF z3]; exact AcR.st _
    · rw [ifF z2, ifF z2]; exact AcR.st _
  · rw [ifF x0, ifF x0, h39, h148]
    have xp : (1000 : Int32) ≤ x := Int32.not_lt.mp x0
    have n0 : ¬ x < 0 := Int32.not_lt.mpr (Int32.le_trans (by decide : (0 : Int32) ≤ 1000) xp)
    obtain ⟨r, rfl, r2⟩ := bI_of (Int32.not_lt.mp n0)
    have hr : 1000 ≤ r := (bI_le (a := 1000) (by decide) r2).mp xp
    have s1 : nI r - 1000 = nI (r - 1000) := nI_subL r 1000 hr
    rw [s1, show (1000 : Int32) + nI Wn = nI (1000 + Wn) from nI_Ladd Wn 1000]
    by_cases z : nI Wn ≤ nI (r - 1000)
    · have := (bI_le (by omega) (by omega)).mp z
      have c : nI (1000 + Wn) ≤ nI r := (bI_le (by omega) (by omega)).mpr (by omega)
      rw [ifT c, ifT z, r56 (Or.inr ⟨n0, xp⟩), ifF n0, ifF (show ¬ nI r < tI σ 154 from fun y => by rw [h154] at y; have := (bI_lt r2 (by omega)).mp y; omega)]
      exact AcR.st _
    · have hw : r - 1000 < Wn := Nat.lt_of_not_le (fun y => z ((bI_le (by omega) (by omega)).mpr y))
      have c : ¬ nI (1000 + Wn) ≤ nI r := fun y => by have := (bI_le (by omega) (by omega)).mp y; omega
      have W := w.1
      have k20 : mk M ((pl D 113).getD (r - 1000) 0) = 20 := (W.2.1.2.1 113 (by decide) _ (by omega)).1
      have gt : K_J2_get 113 (nI (r - 1000)) M = some ((pl D 113).getD (r - 1000) 0, M) := ls_get (W.2.1.1 113 (by decide)).1 (by omega)
      rw [ifF c, ifF z, gt, ob_some, ifT (Or.inr k20), ifT k20, (d6 _ hw).1, ifT (inb_nI' (by omega) (by decide)), ix_nI (by omega)]
      by_cases z3 : tA σ 235 (r - 1000) = 0
      · rw [ifT z3, ifT z3]; exact AcR.st _
      · rw [ifF z3, ifF z3]; exact AcR.st _
/-- the value of a variable -/
theorem z_value (fp : FP C P mss D M σ z7 V I Bm K Nf E A Wn q qs) (W : FW C B P mss fss D M σ) (h : ¬ mI M 30 1 = 0 ∧ ¬ tI σ 108 = 0) (r : NoRun M σ ∨ IsRun x2 C B P mss fss D M σ) (x y : Int32) : AcR M σ (K_X0_value x y M) (F_value x y σ) := by
  have X := fp.1
  have h15 := X.2.2.2.1.1
  have h107 := X.2.2.1.1
  have V96 := X.2.1.1
  unfold K_X0_value F_value
  rw [ifF h.1, ifF h.2, h15, t_isv h107 V96, ob_some]
  by_cases q : x < 0
  · rw [ifT q, ifT q, ifT (rfl : (0 : Int32) = 0)]; exact AcR.st _
  rw [ifF q, ifF q]
  obtain ⟨v, rfl, v2⟩ := bI_of (Int32.not_lt.mp q)
  by_cases q2 : nI v < nI V
  · have hv : v < V := (bI_lt v2 (by omega)).mp q2
    rw [ifT q2, ifF (Int32.not_le.mpr q2), ifF (by decide : ¬ (1 : Int32) = 0)]
    obtain ⟨k17, ⟨k, k1, k2, k3⟩, l98, v96⟩ := X.vr W hv
    have gt : K_J2_get 98 (nI v) M = some ((pl D 98).getD v 0, M) := ls_get (W.2.1.1 98 (by decide)).1 l98
    obtain ⟨-, -, fl, e105⟩ := fp.2.2.1 v hv
    have i96 : inb (nI v) 96 := inb_nI' v96 (by decide)
    have xv : ix (nI v) = v := ix_nI (by omega)
    -- the rest, when a run has begun or not
    have rest : ∀ j : Nat, j = 1 ∨ j = 2 ∨ j = 3 → (j = 1 → ¬ nI k = 1) → AcR M σ (KJ_X0_value_81 (nI j) ((pl D 98).getD v 0) M) (J_value_71 (nI v) (nI j) σ) := fun j hj h1 => by
      unfold KJ_X0_value_81 J_value_71
      rcases r with r | ⟨r, V', U, S, q', A', Wn', K1, K2, N, w, d⟩
      · rw [ifT r.1, ifT r.2]; exact AcR.st _
      rw [ifF r.1, ifF r.2]
      obtain ⟨⟨V96', V98', U180, -⟩, ⟨h15', h107'⟩, -, -, -, uk, -⟩ := w.st
      have eV : V' = V := (bI_eq (by omega) (by omega)).mp (h107'.symm.trans h107)
      subst eV
      obtain ⟨hh, sx, b1, b2, b3, ⟨b4, b5, b5'⟩, b6⟩ := w.hd hv
      obtain ⟨-, d2, d3, -⟩ := d
      have vo : F_valueOf (nI v) σ = gV (1899 + 1) (nI v) σ := rfl
      rw [ifT k17, k2, ifT i96, xv, k3]
      have kk : k = 0 ∨ k = 1 ∨ k = 2 := by omega
      rcases kk with rfl | rfl | rfl
      · -- an unknown's
        obtain ⟨u, u1, u2, u3, lu⟩ := b6 k3
        obtain ⟨b7, gth, -⟩ := w.vr b1
        have i96h : inb (nI hh) 96 := inb_nI' (by omega) (by decide)
        have xh : ix (nI hh) = hh := ix_nI (by omega)
        have i180 : inb (nI u) 180 := inb_nI' (by omega) (by decide)
        have i200 : inb (nI u) 200 := inb_nI' (by omega) (by decide)
        have xu : ix (nI u) = u := ix_nI (by omega)
        have un : ¬ nI u < 0 := n_neg (by omega)
        have up : (0 : Int32) ≤ nI u := nn_nI (by omega)
        obtain ⟨-, -, e121, e189⟩ := uk.2 u u1
        have sgn : ∀ z : Int32, (if 0 ≤ sx then some ((z).toInt64, M) else some ((-z).toInt64, M) : Option (Int64 × CM)) = some ((if sx = 1 then z else -z).toInt64, M) := fun z => by
          rcases b5' with e | e
          · rw [e, ifT (by decide), ifT rfl]
          · rw [e, ifF (by decide), ifF (by decide)]
        rw [ifF (by decide), ifT k17, ifF (by decide), ifF (by decide), ifT k17, b2, gth, ob_some, ifT (Or.inr b7), ifT b7, u2]
        unfold KJ_X0_value_159
        rw [ifF un]
        rcases hj with rfl | rfl | rfl
        · rw [ifF (by decide), ifT (by decide)]
          unfold KJ_X0_value_181 KJ_X0_value_183
          rw [ifT up, ifF (by decide), ifT i180, xu, nm_eq, ifT k17, b4, sgn, vo, tv_k0 lu, ob_some, (d2 u u1).1]
          exact AcR.st _
        · rw [ifT (by decide), ifT i180, xu, ifF (by decide), ifF (by decide), ifT i96, ifT (by decide), ifT i96, b3, ifT i96h, xh, u3]
          unfold KJ_X0_value_183 J_value_144
          rw [ifF un, ifT i200, xu, e121]
          rcases e189 with z | ⟨d', -, d1', z⟩
          · rw [z, ifF (by decide), ifF (by decide)]; exact AcR.st _
          · rw [z, ifT (nn_nI (by omega)), ifT (nn_nI (by omega)), ifF (by decide), ifT (inb_nI' (by omega) (by decide)), ix_nI (by omega), nm_eq, ifT k17, b4, sgn, td_k0 lu (Or.inr ⟨d', by omega, z⟩), ob_some, z, ifT (nn_nI (by omega)), ix_nI (by omega), (d2 d' d1').1]
            exact AcR.st _
        · rw [ifF (by decide), ifF (by decide), ifT (by decide)]
          unfold KJ_X0_value_181 KJ_X0_value_183
          rw [ifT up, ifT (by decide), ifT i180, xu, nm_eq, ifT k17, b4, sgn, tp_k0 lu, ob_some, (d2 u u1).2]
          exact AcR.st _
      · -- a parameter's
        have nj : j ≠ 1 := fun z => h1 z rfl
        rw [ifF (by decide), ifT k17, ifT (by decide), ifT (by decide)]
        unfold KJ_X0_value_159 KJ_X0_value_181 KJ_X0_value_183
        rw [ifT (by decide), ifF (by decide)]
        exact AcR.st _
      · -- a discrete one's
        obtain ⟨g1, g2⟩ := d3 v hv k3
        rw [ifT (by decide), ifF (by decide)]
        rcases hj with rfl | rfl | rfl
        · rw [ifT (by decide), ifT (by decide), ifT k17, vo, tv_k2 v96 k3, ob_some, g1]; exact AcR.st _
        · rw [ifF (by decide), ifF (by decide), ifF (by decide), ifF (by decide), ifT i96, ifF (by decide)]
          unfold J_value_144
          rw [ifT (by decide)]; exact AcR.st _
        · rw [ifF (by decide), ifT (by decide), ifF (by decide), ifT (by decide), ifT k17, tp_k2 v96 k3, ob_some, g2]; exact AcR.st _
    by_cases y0 : y < 0
    · rw [ifT y0, ifT y0]; exact AcR.st _
    rw [ifF y0, ifF y0]
    by_cases y2 : y ≤ 3
    · obtain ⟨j, j1, rfl⟩ := le_n (n := 3) (by decide) y0 y2
      rw [ifT y2, ifT y2, gt, ob_some, ifT (Or.inr k17)]
      have : j = 0 ∨ j = 1 ∨ j = 2 ∨ j = 3 := by omega
      rcases this with rfl | rfl | rfl | rfl
      · rw [ifT (by decide), ifT (by decide), ifT k17, e105, ifT i96, xv]; exact AcR.st _
      · rw [ifF (by decide), ifT (by decide), ifF (by decide), ifT (by decide), ifT k17, k2, ifT i96, xv, k3]
        by_cases z : nI k = 1
        · rw [ifT z, ifT z, ifT k17, (show mI M 3213 ((pl D 98).getD v 0) = tA σ 104 v from fl (k3.trans z)), ifT i96]; exact AcR.st _
        · rw [ifF z, ifF z]
          exact rest 1 (Or.inl rfl) (fun _ => z)
      · rw [ifF (by decide), ifF (by decide), ifF (by decide), ifF (by decide)]
        exact rest 2 (Or.inr (Or.inl rfl)) (fun z => absurd z (by decide))
      · rw [ifF (by decide), ifF (by decide), ifF (by decide), ifF (by decide)]
        exact rest 3 (Or.inr (Or.inr rfl)) (fun z => absurd z (by decide))
    · rw [ifF y2, ifF y2]; exact AcR.st _
  · rw [ifF q2, ifT (Int32.not_lt.mp q2), ifT (rfl : (0 : Int32) = 0)]; exact AcR.st _
theorem z_value_n (h : mI M 30 1 = 0 ∧ tI σ 108 = 0) (x y : Int32) : AcR M σ (K_X0_value x y M) (F_value x y σ) := by
  unfold K_X0_value F_value
  rw [ifT h.1, ifT h.2]; exact AcR.st _
theorem z_method (x y : Int32) : (∃ r, K_X0_method x y M = some (r, M) ∧ F_method x y σ = some (r, σ)) ∨ ∃ r, (0 ≤ x ∧ x ≤ 3 ∧ 1 ≤ y ∧ y ≤ 6553600) ∧ K_X0_method x y M = some (r, msI (msI M 93 1 x) 94 1 y) ∧ F_method x y σ = some (r, tsI (tsI σ 223 x) 224 y) := by
  unfold K_X0_method F_method
  by_cases h1 : x < 0
  · rw [ifT h1, ifT h1]; exact Or.inl (AcR.st _)
  rw [ifF h1, ifF h1]
  by_cases h2 : 3 < x
  · rw [ifT h2, ifT h2]; exact Or.inl (AcR.st _)
  rw [ifF h2, ifF h2]
  by_cases h3 : y < 1
  · rw [ifT h3, ifT h3]; exact Or.inl (AcR.st _)
  rw [ifF h3, ifF h3]
  by_cases h4 : y ≤ 6553600
  · rw [ifT h4, ifT h4]
    exact Or.inr ⟨0, ⟨Int32.not_lt.mp h1, Int32.not_lt.mp h2, Int32.not_lt.mp h3, h4⟩, rfl, rfl⟩
  · rw [ifF h4, ifF h4]; exact Or.inl (AcR.st _)
/-- unknowns of role 1 -/
theorem k_role (h57 : mI M 57 1 = nI U) (hU : U ≤ 180) (ro : RolR M σ U) : ∀ (d u c f : Nat), u + d = U → d < f → c = cnB (fun u => decide (tA σ 192 u = 1)) u → KL_X0_unknownsOf_4 f 1 (nI c) (nI u) M = some (nI (cnB (fun u => decide (tA σ 192 u = 1)) U), M) := by
  intro d
  induction d with
  | zero =>
    intro u c f hu hf hc
    obtain ⟨f, rfl⟩ : ∃ g, f = g + 1 := ⟨f - 1, by omega⟩
    obtain rfl : u = U := by omega
    rw [KL_X0_unknownsOf_4, h57, ifT ((bI_le (by omega) (by omega)).mpr (Nat.le_refl _)), hc]
  | succ d ih =>
    intro u c f hu hf hc
    obtain ⟨f, rfl⟩ : ∃ g, f = g + 1 := ⟨f - 1, by omega⟩
    obtain ⟨k, k1, k2, k3, -⟩ := ro u (by omega)
    have ek : mA M 123 u = tA σ 192 u := k2.trans k3.symm
    have cs : cnB (fun u => decide (tA σ 192 u = 1)) (u + 1) = cnB (fun u => decide (tA σ 192 u = 1)) u + if decide (tA σ 192 u = 1) = true then 1 else 0 := rfl
    rw [KL_X0_unknownsOf_4, h57, ifF (fun z => by have := (bI_le (by omega) (by omega)).mp z; omega), ifT (inb_nI' (by omega) (by decide)), ix_nI (by omega), ek]
    by_cases z : tA σ 192 u = 1
    · rw [ifT z, nm_eq, nm_eq, nI_addL, nI_addL]
      exact ih (u + 1) (c + 1) f (by omega) (by omega) (by rw [cs, hc, ifT (decide_eq_true z)])
    · rw [ifF z, nm_eq, nm_eq, nI_addL, Int32.add_zero]
      exact ih (u + 1) c f (by omega) (by omega) (by rw [cs, hc, ifF (by rw [decide_eq_false z]; decide)])
/-- counts that stand always -/
def Cn0 (M : CM) (σ : TS) : Prop := (K_J2_size 88 M = some (tI σ 49, M) ∧ K_J2_size 89 M = some (tI σ 48, M)) ∧ mI M 9 1 = tI σ 19
theorem z_count (c0 : Cn0 M σ) (h30 : (mI M 30 1 = 0 ∧ tI σ 108 = 0) ∨ ((¬ mI M 30 1 = 0 ∧ ¬ tI σ 108 = 0) ∧ mI M 604 105 = tI σ 127 ∧ ∃ z7 V I Bm K Nf E A Wn q qs, FP C P mss D M σ z7 V I Bm K Nf E A Wn q qs)) (h46 : (mI M 46 1 = 0 ∧ tI σ 109 = 0) ∨ ((¬ mI M 46 1 = 0 ∧ ¬ tI σ 109 = 0) ∧ ∃ V U S q A Wn K1 K2 N, RnW C B P mss fss V U S q A Wn K1 K2 N D M σ)) (h91 : NoRun M σ ∨ ((¬ mI M 91 1 = 0 ∧ ¬ tI σ 110 = 0) ∧ mI M 95 1 = tI σ 237 ∧ mI M 96 1 = tI σ 238 ∧ mI M 97 1 = tI σ 239 ∧ mI M 90 1 = tI σ 222)) (x : Int32) : AcR M σ (K_X0_count x M) (F_count x σ) := by
  unfold K_X0_count F_count
  by_cases q : x < 0
  · rw [ifT q, ifT q]; exact AcR.st _
  rw [ifF q, ifF q]
  by_cases q20 : x ≤ 20
  · obtain ⟨j, j1, rfl⟩ := le_n (n := 20) (by decide) q q20
    rw [ifT q20, ifT q20]
    have hj : j = 0 ∨ j = 1 ∨ j = 2 ∨ j = 3 ∨ j = 4 ∨ j = 5 ∨ j = 6 ∨ j = 7 ∨ j = 8 ∨ j = 9 ∨ j = 10 ∨ j = 11 ∨ j = 12 ∨ j = 13 ∨ j = 14 ∨ j = 15 ∨ j = 16 ∨ j = 17 ∨ j = 18 ∨ j = 19 ∨ j = 20 := by omega
    have fl : ∀ kf tf : Nat, (∀ z7 V I Bm K Nf E A Wn q qs, FP C P mss D M σ z7 V I Bm K Nf E A Wn q qs → mI M kf 1 = tI σ tf) → AcR M σ (if mI M 30 1 = 0 then some (-4, M) else some (mI M kf 1, M)) (if tI σ 108 = 0 then some (-4, σ) else some (tI σ tf, σ)) := fun kf tf g => by
      rcases h30 with h | ⟨h, -, z7, V, I, Bm, K, Nf, E, A, Wn, q, qs, fp⟩
      · rw [ifT h.1, ifT h.2]; exact AcR.st _
      · rw [ifF h.1, ifF h.2, g _ _ _ _ _ _ _ _ _ _ _ fp]; exact AcR.st _
    have sv : ∀ (kq : Option (Int32 × CM)) (tq : Int32), (∀ V U S q A Wn K1 K2 N, RnW C B P mss fss V U S q A Wn K1 K2 N D M σ → kq = some (tq, M)) → AcR M σ (if mI M 30 1 = 0 then some (-4, M) else if mI M 46 1 = 0 then some (-4, M) else kq) (if tI σ 108 = 0 then some (-4, σ) else if tI σ 109 = 0 then some (-4, σ) else some (tq, σ)) := fun kq tq g => by
      rcases h30 with h | ⟨h, -⟩
      · rw [ifT h.1, ifT h.2]; exact AcR.st _
      · rw [ifF h.1, ifF h.2]
        rcases h46 with h | ⟨h, V, U, S, q, A, Wn, K1, K2, N, w⟩
        · rw [ifT h.1, ifT h.2]; exact AcR.st _
        · rw [ifF h.1, ifF h.2, g _ _ _ _ _ _ _ _ _ w]; exact AcR.st _
    have ru : ∀ kf tf : Nat, ((mI M 95 1 = tI σ 237 ∧ mI M 96 1 = tI σ 238 ∧ mI M 97 1 = tI σ 239 ∧ mI M 90 1 = tI σ 222) → mI M kf 1 = tI σ tf) → AcR M σ (if mI M 30 1 = 0 then some (-4, M) else if mI M 46 1 = 0 then some (-4, M) else if mI M 91 1 = 0 then some (-4, M) else some (mI M kf 1, M)) (if tI σ 108 = 0 then some (-4, σ) else if tI σ 109 = 0 then some (-4, σ) else if tI σ 110 = 0 then some (-4, σ) else some (tI σ tf, σ)) := fun kf tf g => by
      rcases h30 with h | ⟨h, -⟩
      · rw [ifT h.1, ifT h.2]; exact AcR.st _
      · rw [ifF h.1, ifF h.2]
        rcases h46 with h | ⟨h, -⟩
        · rw [ifT h.1, ifT h.2]; exact AcR.st _
        · rw [ifF h.1, ifF h.2]
          rcases h91 with h | ⟨h, e⟩
          · rw [ifT h.1, ifT h.2]; exact AcR.st _
          · rw [ifF h.1, ifF h.2, g e]; exact AcR.st _
    obtain ⟨⟨z1, z2⟩, z3⟩ := c0
    unfold KJ_X0_count_24 J_count_24 KJ_X0_count_37 J_count_37 KJ_X0_count_53 J_count_53
    rcases hj with rfl | rfl | rfl | rfl | rfl | rfl | rfl | rfl | rfl | rfl | rfl | rfl | rfl | rfl | rfl | rfl | rfl | rfl | rfl | rfl | rfl <;> simp +decide only [↓reduceIte]
    · rw [z1, ob_some]; exact AcR.st _
    · rw [z2, ob_some]; exact AcR.st _
    · rw [z3]; exact AcR.st _
    · exact fl 15 107 (fun _ _ _ _ _ _ _ _ _ _ _ fp => fp.1.2.2.2.1.1.trans fp.1.2.2.1.1.symm)
    · exact fl 35 144 (fun _ _ _ _ _ _ _ _ _ _ _ fp => fp.2.2.2.1.1.1.trans fp.2.2.2.1.1.2.1.symm)
    · exact fl 41 154 (fun _ _ _ _ _ _ _ _ _ _ _ fp => fp.2.2.2.2.2.2.1.1.1.trans fp.2.2.2.2.2.2.1.1.2.1.symm)
    · exact fl 39 148 (fun _ _ _ _ _ _ _ _ _ _ _ fp => fp.2.2.2.2.2.1.1.1.trans fp.2.2.2.2.2.1.1.2.1.symm)
    · rcases h30 with h | ⟨h, e, -⟩
      · rw [ifT h.1, ifT h.2]; exact AcR.st _
      · rw [ifF h.1, ifF h.2, e]; exact AcR.st _
    · exact fl 16 82 (fun _ _ _ _ _ _ _ _ _ _ _ fp => fp.1.2.2.2.1.2.trans fp.1.2.2.1.2.1.symm)
    · exact fl 43 156 (fun _ _ _ _ _ _ _ _ _ _ _ fp => fp.2.2.2.2.2.2.2.2.2.1)
    · exact sv _ _ (fun _ _ _ _ _ _ _ _ _ w => by
        obtain ⟨-, -, ⟨h57, h197⟩, -⟩ := w.st
        rw [h57, h197])
    · exact sv _ _ (fun _ _ _ _ _ _ _ _ _ w => by
        obtain ⟨E, hd, sg, -, i, -⟩ := w.un
        rw [i.2.1.1, i.2.1.2.1])
    · exact sv _ _ (fun _ _ _ _ _ _ _ _ _ w => by
        obtain ⟨W, ⟨z7, I, Bm, K, Nf, E, qs, hd, sg, c, fp, s⟩, kn⟩ := w
        obtain ⟨c1, c2⟩ := s.2.2.2.1
        rw [c1, c2])
    · exact sv _ _ (fun _ _ _ _ _ _ _ _ _ w => by
        obtain ⟨E, hd, sg, -, -, -, -, nb, fb, ⟨b1, b2, -⟩, -⟩ := w.un
        rw [b1, b2])
    · exact sv _ _ (fun _ _ _ _ _ _ _ _ _ w => by
        obtain ⟨E, hd, sg, -, -, -, ⟨ns, ⟨b1, b2, -⟩, -⟩, -⟩ := w.un
        rw [b1, b2])
    · exact sv _ _ (fun _ U _ _ _ _ _ _ _ w => by
        obtain ⟨E, hd, sg, -, i, ro, ⟨ns, -, -, b3⟩, -⟩ := w.un
        have fu := FUb
        have U180 := i.2.2.1.1.2.2
        unfold K_X0_unknownsOf
        rw [show (0 : Int32) = nI 0 from rfl, k_role i.2.2.1.1.1 U180 ro U 0 0 FU (by omega) (by omega) rfl, ob_some, ob_some, b3])
    · exact sv _ _ (fun _ _ _ _ _ _ _ _ _ w => by
        obtain ⟨E, hd, sg, -, i, -⟩ := w.un
        rw [i.1.1.2.2.2.1.1, i.2.2.2.1.2.2.2, n64_i32])
    · exact ru 95 237 (fun e => e.1)
    · exact ru 96 238 (fun e => e.2.1)
    · exact ru 97 239 (fun e => e.2.2.1)
    · exact ru 90 222 (fun e => e.2.2.2)
  · rw [ifF q20, ifF q20]; exact AcR.st _
end RUNACC
