/-! Layer B: steps: states are moved, rates are taken, both sides (printed by gen/c17.py) -/
set_option maxRecDepth 100000
/-- the unknown of a state -/
def us (σ : TS) (i : Nat) : Nat := ix (tA σ 207 i)
/-- the states, both sides -/
def SaR (ns U : Nat) (M : CM) (σ : TS) : Prop := (mI M 74 1 = nI ns ∧ tI σ 198 = nI ns ∧ ns ≤ 24 ∧ U ≤ 180) ∧ ∀ i, i < ns → us σ i < U ∧ mA M 140 i = nI (us σ i) ∧ tA σ 207 i = nI (us σ i) ∧ ∃ w, w < U ∧ mA M 121 (us σ i) = nI w ∧ tA σ 189 (us σ i) = nI w
/-- a row of both sides -/
def KA (a b n : Nat) (M : CM) (σ : TS) : Prop := ∀ i, i < n → mA M a i = tA σ b i
/-- the twin after a fault of arithmetic -/
def B41 (T : List Nat) (σ σ1 : TS) : Prop := Ft T σ σ1 ∧ tI σ1 0 = 41 ∧ tI σ1 1 = 0
section MOVE
variable {pq : Bool} {C : PC} {B : Nat} {P : Nat → Prop} {mss fss : List Nat} {V U S q A Wn K1 K2 N e r w v u b n i j k m kf tf h a ns : Nat} {D : FQ} {M M' M1 : CM} {σ σ' s s1 : TS} {x x1 x2 x3 y z y1 y2 y3 : Int32} {I A0 T : List Nat}
theorem RnW.sta (w : RnW C B P mss fss V U S q A Wn K1 K2 N D M σ) : ∃ ns, SaR ns U M σ := by
  obtain ⟨⟨-, -, U180, -, -, -⟩, -, -, -, -, uk, ⟨ns, ⟨s1, s2, s3, -⟩, s5, -⟩, -, ro, -⟩ := w.st
  refine ⟨ns, ⟨s1, s2, s3, U180⟩, fun i hi => ?_⟩
  obtain ⟨u, u1, u2, u3, u4⟩ := s5 i hi
  have eu : us σ i = u := by unfold us; rw [u3, ix_nI (by omega)]
  rw [eu]
  refine ⟨u1, u2, u3, ?_⟩
  obtain ⟨-, -, e3, e4⟩ := uk.2 u u1
  obtain ⟨k, k1, k2, k3, k4⟩ := ro u u1
  have k2' : k = 2 := nIq (b := 2) (k3.symm.trans u4) (by omega) (by omega)
  rcases e4 with z | ⟨w, w1, w2, w3⟩
  · have := k4.mpr (by rw [z]; decide)
    omega
  · exact ⟨w, w2, e3.trans w3, w3⟩
theorem SaR.up (h : SaR ns U M σ) (kk : KF D I [] A0 [] M M') (f : Ft T σ σ') (hI : I.contains 74 = false) (hA : A0.contains 140 = false ∧ A0.contains 121 = false) (hT : [189, 198, 207].all (fun k => !T.contains k) = true) : SaR ns U M' σ' := by
  have hf : ∀ k, k ∈ [189, 198, 207] → T.contains k = false := fun k hk => by simpa using List.all_eq_true.mp hT k hk
  obtain ⟨⟨h1, h2, h3⟩, h4⟩ := h
  have e : ∀ i, us σ' i = us σ i := fun i => by unfold us; rw [(f 207 (hf 207 (by decide))).2.2.1]
  refine ⟨⟨(kk.i hI 1).trans h1, (f 198 (hf 198 (by decide))).1.trans h2, h3⟩, fun i hi => ?_⟩
  obtain ⟨c1, c2, c3, w, c4, c5, c6⟩ := h4 i hi
  rw [e, kk.ga hA.1, kk.ga hA.2, (f 207 (hf 207 (by decide))).2.2.1, (f 189 (hf 189 (by decide))).2.2.1]
  exact ⟨c1, c2, c3, w, c4, c5, c6⟩
theorem B41.tr (h : B41 T σ s) (f : Ft T s s1) (e : tI s1 0 = tI s 0 ∧ tI s1 1 = tI s 1) : B41 T σ s1 := ⟨h.1.tr f, e.1.trans h.2.1, e.2.trans h.2.2⟩
theorem B41.of (h0 : T.contains 0 = true ∧ T.contains 1 = true) : B41 T σ (badT σ 41) := ⟨badT_f.mono (by simp only [List.all_cons, List.all_nil, h0.1, h0.2]; rfl), rfl, rfl⟩
theorem bad41 : tI (badT σ 41) 0 ≠ 0 := by rw [show tI (badT σ 41) 0 = 41 from rfl]; decide
theorem KF.a1 (kk : KF D [] [] [124] [] M M') : mn M' = mn M ∧ ms M' = ms M := ⟨kk.n, kk.2.2.2.2.2.2.2.2⟩
/-- places are moved, the component -/
theorem k_mv8 (st : SaR ns U M σ) (hx : a ≠ 0) (ha : mk M a = 50 ∧ ml M a = 180) (a124 : a ≠ 124) (hc : mn M ≤ 601024 ∧ ms M + 8 ≤ 7293034) (hn : mn M ≠ 0) (h : Int32) (x4 : Nat) :
    ((∀ j, j < ns → mvV h (mA M 158 j) (mA M a j) ≠ none) ∧ ∃ M', KL_X0_slopes_8 FU h a x4 0 M = some (.inl (), M') ∧ KF D [] [] [124] [] M M' ∧ ∀ j, mA M' 124 j = wrS (us σ) (fun i => (mvV h (mA M 158 i) (mA M a i)).getD 0) ns (mA M 124) j) ∨
    ((∃ j, j < ns ∧ mvV h (mA M 158 j) (mA M a j) = none) ∧ ∃ M1, KL_X0_slopes_8 FU h a x4 0 M = some (.inr (.inr (mn M1)), wM M1 41 0) ∧ KF D [] [] [124] [] M M1) := by
  have fu : 1000 < FU := by unfold FU; decide
  obtain ⟨⟨h74, h198, n24, U180⟩, hs⟩ := st
  have lp := loopKV (L := fun n i s => KL_X0_slopes_8 n h a x4 i s) (X := ns) (fun i => mvV h (mA M 158 i) (mA M a i)) (fun i M' => KF D [] [] [124] [] M M' ∧ ∀ j, mA M' 124 j = wrS (us σ) (fun i => (mvV h (mA M 158 i) (mA M a i)).getD 0) i (mA M 124) j) (fun n M' ⟨k, _⟩ => by
      have t : mI M' 74 1 ≤ nI ns := by rw [k.i rfl, h74, bI_le (by omega) (by omega)]; omega
      show KL_X0_slopes_8 (n + 1) h a x4 (nI ns) M' = _
      rw [KL_X0_slopes_8, ifT t]) (fun n i M' v hi ⟨k, hv⟩ g => by
      have t : ¬ mI M' 74 1 ≤ nI i := by rw [k.i rfl, h74, bI_le (by omega) (by omega)]; omega
      have ii : inb (nI i) 180 := inb_nI' (by omega) (by decide)
      have xi : ix (nI i) = i := ix_nI (by omega)
      obtain ⟨c1, c2, -⟩ := hs i hi
      have iu : inb (nI (us σ i)) 180 := inb_nI' (by omega) (by decide)
      have xu : ix (nI (us σ i)) = us σ i := ix_nI (by omega)
      have ia : mk M' a = 50 ∧ inb (nI i) (ml M' a) := ⟨(k.k _).trans ha.1, by rw [k.gl, ha.2]; exact ii⟩
      obtain ⟨r, r1, r2⟩ : ∃ r, timV h (mA M a i) = some r ∧ addV (mA M 158 i) r = some v := by
        unfold mvV at g
        cases e : timV h (mA M a i) with
        | none => rw [e] at g; cases g
        | some r => rw [e] at g; exact ⟨r, rfl, g⟩
      refine ⟨mwA M' 124 (us σ i) v, ?_, k.wA rfl (by decide), fun j => ?_⟩
      · show KL_X0_slopes_8 (n + 1) h a x4 (nI i) M' = _
        have ka : mA M' a i = mA M a i := k.ga (by simp [a124]) i
        rw [KL_X0_slopes_8, ifF t, ifT ii, ifF hx, ifT ii, ifT ia, xi, ka, k_tim1 r1, obS_inl, k.ga rfl, k_in1 r2, obS_inl, k.ga rfl, c2, ifT iu, xu, nm_eq, nm_eq, p1n]
      · show mA (mwA M' 124 (us σ i) v) 124 j = if j = us σ i then (mvV h (mA M 158 i) (mA M a i)).getD 0 else wrS (us σ) (fun i => (mvV h (mA M 158 i) (mA M a i)).getD 0) i (mA M 124) j
        rw [mA_mwA, g]
        by_cases z : j = us σ i
        · rw [ifT ⟨rfl, z⟩, ifT z]; rfl
        · rw [ifF (fun y => z y.2), ifF z]; exact hv j) (fun n i M' hi ⟨k, hv⟩ g => by
      have t : ¬ mI M' 74 1 ≤ nI i := by rw [k.i rfl, h74, bI_le (by omega) (by omega)]; omega
      have ii : inb (nI i) 180 := inb_nI' (by omega) (by decide)
      have xi : ix (nI i) = i := ix_nI (by omega)
      have ia : mk M' a = 50 ∧ inb (nI i) (ml M' a) := ⟨(k.k _).trans ha.1, by rw [k.gl, ha.2]; exact ii⟩
      obtain ⟨en, es⟩ := KF.a1 k
      have hc' : mn M' ≤ 601024 ∧ ms M' + 8 ≤ 7293034 := by rw [en, es]; exact hc
      have hn' : mn M' ≠ 0 := by rw [en]; exact hn
      have ka : mA M' a i = mA M a i := k.ga (by simp [a124]) i
      show KL_X0_slopes_8 (n + 1) h a x4 (nI i) M' = _
      rw [KL_X0_slopes_8, ifF t, ifT ii, ifF hx, ifT ii, ifT ia, xi, ka]
      unfold mvV at g
      cases e : timV h (mA M a i) with
      | none => rw [k_tim0 hc' hn' e, obS_inr]
      | some r =>
        rw [e] at g
        rw [k_tim1 e, obS_inl, k.ga rfl, k_in0 hc' hn' g, obS_inr]) ns 0 FU M (by omega) (by omega) ⟨KF.rf, fun j => rfl⟩
  rcases lp with ⟨a1, M', a2, a3, a4⟩ | ⟨⟨j, ⟨-, j2⟩, j3⟩, k, M1, a2, a3, -⟩
  · exact Or.inl ⟨fun j hj => a1 j (Nat.zero_le _) hj, M', a2, a3, a4⟩
  · exact Or.inr ⟨⟨j, j2, j3⟩, M1, a2, a3⟩
/-- a first slope: the states stay where they are -/
theorem k_mv0 (st : SaR ns U M σ) (hx : ∀ i, i < ns → mA M 158 i = mA M 124 (us σ i)) (h : Int32) (x4 : Nat) : ∃ M', KL_X0_slopes_8 FU h 0 x4 0 M = some (.inl (), M') ∧ KF D [] [] [124] [] M M' ∧ ∀ j, mA M' 124 j = mA M 124 j := by
  have fu : 1000 < FU := by unfold FU; decide
  obtain ⟨⟨h74, h198, n24, U180⟩, hs⟩ := st
  have lp := loopKV (L := fun n i s => KL_X0_slopes_8 n h 0 x4 i s) (X := ns) (fun i => some 0) (fun i M' => KF D [] [] [124] [] M M' ∧ ∀ j, mA M' 124 j = mA M 124 j) (fun n M' ⟨k, _⟩ => by
      have t : mI M' 74 1 ≤ nI ns := by rw [k.i rfl, h74, bI_le (by omega) (by omega)]; omega
      show KL_X0_slopes_8 (n + 1) h 0 x4 (nI ns) M' = _
      rw [KL_X0_slopes_8, ifT t]) (fun n i M' v hi ⟨k, hv⟩ g => by
      have t : ¬ mI M' 74 1 ≤ nI i := by rw [k.i rfl, h74, bI_le (by omega) (by omega)]; omega
      have ii : inb (nI i) 180 := inb_nI' (by omega) (by decide)
      have xi : ix (nI i) = i := ix_nI (by omega)
      obtain ⟨c1, c2, -⟩ := hs i hi
      have iu : inb (nI (us σ i)) 180 := inb_nI' (by omega) (by decide)
      have xu : ix (nI (us σ i)) = us σ i := ix_nI (by omega)
      refine ⟨mwA M' 124 (us σ i) (mA M 158 i), ?_, k.wA rfl (by decide), fun j => ?_⟩
      · show KL_X0_slopes_8 (n + 1) h 0 x4 (nI i) M' = _
        rw [KL_X0_slopes_8, ifF t, ifT ii, ifT (rfl : (0 : Nat) = 0), ifT ii, xi, k.ga rfl, k.ga rfl, c2, ifT iu, xu, nm_eq, nm_eq, p1n]
      · rw [mA_mwA]
        by_cases z : j = us σ i
        · rw [ifT ⟨rfl, z⟩, hx i hi, z]
        · rw [ifF (fun y => z y.2)]; exact hv j) (fun n i M' hi _ g => by cases g) ns 0 FU M (by omega) (by omega) ⟨KF.rf, fun j => rfl⟩
  rcases lp with ⟨a1, M', a2, a3, a4⟩ | ⟨⟨j, ⟨-, j2⟩, j3⟩, -⟩
  · exact ⟨M', a2, a3, a4⟩
  · cases j3
/-- the states' last move, the component -/
theorem k_mv4 (st : SaR ns U M σ) (h93 : ¬ mI M 93 1 = 2) (hc : mn M ≤ 601024 ∧ ms M + 8 ≤ 7293034) (hn : mn M ≠ 0) (h : Int32) :
    ((∀ j, j < ns → mvV h (mA M 158 j) (mA M 159 j) ≠ none) ∧ ∃ M', KL_X0_step_304 FU h 0 M = some (.inl (), M') ∧ KF D [] [] [124] [] M M' ∧ ∀ j, mA M' 124 j = wrS (us σ) (fun i => (mvV h (mA M 158 i) (mA M 159 i)).getD 0) ns (mA M 124) j) ∨
    ((∃ j, j < ns ∧ mvV h (mA M 158 j) (mA M 159 j) = none) ∧ ∃ M1, KL_X0_step_304 FU h 0 M = some (.inr (.inr (mn M1)), wM M1 41 0) ∧ KF D [] [] [124] [] M M1) := by
  have fu : 1000 < FU := by unfold FU; decide
  obtain ⟨⟨h74, h198, n24, U180⟩, hs⟩ := st
  have lp := loopKV (L := fun n i s => KL_X0_step_304 n h i s) (X := ns) (fun i => mvV h (mA M 158 i) (mA M 159 i)) (fun i M' => KF D [] [] [124] [] M M' ∧ ∀ j, mA M' 124 j = wrS (us σ) (fun i => (mvV h (mA M 158 i) (mA M 159 i)).getD 0) i (mA M 124) j) (fun n M' ⟨k, _⟩ => by
      have t : mI M' 74 1 ≤ nI ns := by rw [k.i rfl, h74, bI_le (by omega) (by omega)]; omega
      show KL_X0_step_304 (n + 1) h (nI ns) M' = _
      rw [KL_X0_step_304, ifT t]) (fun n i M' v hi ⟨k, hv⟩ g => by
      have t : ¬ mI M' 74 1 ≤ nI i := by rw [k.i rfl, h74, bI_le (by omega) (by omega)]; omega
      have ii : inb (nI i) 180 := inb_nI' (by omega) (by decide)
      have xi : ix (nI i) = i := ix_nI (by omega)
      obtain ⟨c1, c2, -⟩ := hs i hi
      have iu : inb (nI (us σ i)) 180 := inb_nI' (by omega) (by decide)
      have xu : ix (nI (us σ i)) = us σ i := ix_nI (by omega)
      have h93' : ¬ mI M' 93 1 = 2 := by rw [k.i rfl]; exact h93
      obtain ⟨r, r1, r2⟩ : ∃ r, timV h (mA M 159 i) = some r ∧ addV (mA M 158 i) r = some v := by
        unfold mvV at g
        cases e : timV h (mA M 159 i) with
        | none => rw [e] at g; cases g
        | some r => rw [e] at g; exact ⟨r, rfl, g⟩
      refine ⟨mwA M' 124 (us σ i) v, ?_, k.wA rfl (by decide), fun j => ?_⟩
      · show KL_X0_step_304 (n + 1) h (nI i) M' = _
        rw [KL_X0_step_304, ifF t, ifT ii, xi, k.ga rfl, k_tim1 r1, obS_inl, ifT ii, ifT ii, ifF h93', k.ga rfl, k_in1 r2, obS_inl, k.ga rfl, c2, ifT iu, xu, nm_eq, nm_eq, p1n]
      · show mA (mwA M' 124 (us σ i) v) 124 j = if j = us σ i then (mvV h (mA M 158 i) (mA M 159 i)).getD 0 else wrS (us σ) (fun i => (mvV h (mA M 158 i) (mA M 159 i)).getD 0) i (mA M 124) j
        rw [mA_mwA, g]
        by_cases z : j = us σ i
        · rw [ifT ⟨rfl, z⟩, ifT z]; rfl
        · rw [ifF (fun y => z y.2), ifF z]; exact hv j) (fun n i M' hi ⟨k, hv⟩ g => by
      have t : ¬ mI M' 74 1 ≤ nI i := by rw [k.i rfl, h74, bI_le (by omega) (by omega)]; omega
      have ii : inb (nI i) 180 := inb_nI' (by omega) (by decide)
      have xi : ix (nI i) = i := ix_nI (by omega)
      obtain ⟨en, es⟩ := KF.a1 k
      have hc' : mn M' ≤ 601024 ∧ ms M' + 8 ≤ 7293034 := by rw [en, es]; exact hc
      have hn' : mn M' ≠ 0 := by rw [en]; exact hn
      have h93' : ¬ mI M' 93 1 = 2 := by rw [k.i rfl]; exact h93
      show KL_X0_step_304 (n + 1) h (nI i) M' = _
      rw [KL_X0_step_304, ifF t, ifT ii, xi, k.ga rfl]
      unfold mvV at g
      cases e : timV h (mA M 159 i) with
      | none => rw [k_tim0 hc' hn' e, obS_inr]
      | some r =>
        rw [e] at g
        rw [k_tim1 e, obS_inl, ifT ii, ifT ii, ifF h93', k.ga rfl, k_in0 hc' hn' g, obS_inr]) ns 0 FU M (by omega) (by omega) ⟨KF.rf, fun j => rfl⟩
  rcases lp with ⟨a1, M', a2, a3, a4⟩ | ⟨⟨j, ⟨-, j2⟩, j3⟩, k, M1, a2, a3, -⟩
  · exact Or.inl ⟨fun j hj => a1 j (Nat.zero_le _) hj, M', a2, a3, a4⟩
  · exact Or.inr ⟨⟨j, j2, j3⟩, M1, a2, a3⟩
/-- rates are taken, the component -/
theorem k_rat (st : SaR ns U M σ) (ha : mk M a = 50 ∧ ml M a = 180) (hA : 117 ≤ a ∧ a < 167) (na : a ≠ 74 ∧ a ≠ 124 ∧ a ≠ 140 ∧ a ≠ 121) : ∃ M', KL_X0_slopes_77 FU a 0 M = some ((), M') ∧ KF D [] [] [a] [] M M' ∧ ∀ i, i < ns → mA M' a i = mA M 124 (ix (tA σ 189 (us σ i))) := by
  have fu : 1000 < FU := by unfold FU; decide
  obtain ⟨⟨h74, h198, n24, U180⟩, hs⟩ := st
  have ca : ∀ k, k ≠ a → ([a] : List Nat).contains k = false := fun k hk => by simp [hk]
  obtain ⟨M', l1, l2, l3⟩ := loopK (L := fun n i s => KL_X0_slopes_77 n a i s) (X := ns) (fun i M' => KF D [] [] [a] [] M M' ∧ ∀ j, j < i → mA M' a j = mA M 124 (ix (tA σ 189 (us σ j)))) (fun n M' ⟨k, _⟩ => by
      have t : mI M' 74 1 ≤ nI ns := by rw [k.i rfl, h74, bI_le (by omega) (by omega)]; omega
      show KL_X0_slopes_77 (n + 1) a (nI ns) M' = _
      rw [KL_X0_slopes_77, ifT t]) (fun n i M' hi ⟨k, hv⟩ => by
      have t : ¬ mI M' 74 1 ≤ nI i := by rw [k.i rfl, h74, bI_le (by omega) (by omega)]; omega
      have ii : inb (nI i) 180 := inb_nI' (by omega) (by decide)
      have xi : ix (nI i) = i := ix_nI (by omega)
      obtain ⟨c1, c2, -, w, w1, w2, w3⟩ := hs i hi
      have iu : inb (nI (us σ i)) 180 := inb_nI' (by omega) (by decide)
      have xu : ix (nI (us σ i)) = us σ i := ix_nI (by omega)
      have iw : inb (nI w) 180 := inb_nI' (by omega) (by decide)
      have xw : ix (nI w) = w := ix_nI (by omega)
      have ia : mk M' a = 50 ∧ inb (nI i) (ml M' a) := ⟨(k.k _).trans ha.1, by rw [k.gl, ha.2]; exact ii⟩
      refine ⟨mwA M' a i (mA M 124 w), ?_, k.wA (by simp) hA, fun j hj => ?_⟩
      · show KL_X0_slopes_77 (n + 1) a (nI i) M' = _
        rw [KL_X0_slopes_77, ifF t, ifT ii, xi, k.ga (ca 140 (by omega)), c2, ifT iu, xu, k.ga (ca 121 (by omega)), w2, ifT iw, xw, ifT ia, k.ga (ca 124 (by omega)), nm_eq, nm_eq, p1n]
      · rw [mA_mwA]
        by_cases z : j = i
        · rw [ifT ⟨rfl, z⟩, z, w3, xw]
        · rw [ifF (fun y => z y.2)]; exact hv j (by omega)) ns 0 FU M (by omega) (by omega) ⟨KF.rf, fun j hj => by omega⟩
  exact ⟨M', l1, l2, l3⟩
/-- places are moved, the twin, row 241 -/
theorem t_mvF241 (hs : tI s 0 ≠ 0) {f : Nat} : L_move_241_2 (f + 1) x y s = some ((), s) := by
  rw [L_move_241_2]
  by_cases z : tI s 198 ≤ y
  · rw [ifT z]
  · rw [ifF z, t_isBad1 hs, ob_some, ifF (show ¬ (1 : Int32) = 0 by decide)]
theorem t_mv241F (hs : tI s 0 ≠ 0) : F_move_241 x s = some ((), s) := by
  obtain ⟨g, hg⟩ := fuEx
  unfold F_move_241
  rw [hg, t_mvF241 hs, ob_some]
theorem t_mv241 (st : SaR ns U M σ) (h0 : tI σ 0 = 0) (h : Int32) :
    ((∀ j, j < ns → mvV h (tA σ 240 j) (tA σ 241 j) ≠ none) ∧ ∃ σ', F_move_241 h σ = some ((), σ') ∧ Ft [166] σ σ' ∧ ∀ j, tA σ' 166 j = wrS (us σ) (fun i => (mvV h (tA σ 240 i) (tA σ 241 i)).getD 0) ns (tA σ 166) j) ∨
    ((∃ j, j < ns ∧ mvV h (tA σ 240 j) (tA σ 241 j) = none) ∧ ∃ σ1, F_move_241 h σ = some ((), σ1) ∧ B41 [0, 1, 166] σ σ1) := by
  have fu : 1000 < FU := by unfold FU; decide
  obtain ⟨⟨h74, h198, n24, U180⟩, hs⟩ := st
  have lp := loopTV (L := fun n i s => L_move_241_2 n h i s) (X := ns) (fun i => mvV h (tA σ 240 i) (tA σ 241 i)) (fun i σ' => Ft [166] σ σ' ∧ ∀ j, tA σ' 166 j = wrS (us σ) (fun i => (mvV h (tA σ 240 i) (tA σ 241 i)).getD 0) i (tA σ 166) j) (B41 [0, 1, 166] σ) (fun n σ' ⟨f, _⟩ => by
      have t : tI σ' 198 ≤ nI ns := by rw [(f 198 rfl).1, h198, bI_le (by omega) (by omega)]; omega
      show L_move_241_2 (n + 1) h (nI ns) σ' = _
      rw [L_move_241_2, ifT t]) (fun n i σ' v hi ⟨f, hv⟩ g => by
      have t : ¬ tI σ' 198 ≤ nI i := by rw [(f 198 rfl).1, h198, bI_le (by omega) (by omega)]; omega
      have h0' : tI σ' 0 = 0 := (f 0 rfl).1.trans h0
      have ii : inb (nI i) 200 := inb_nI' (by omega) (by decide)
      have xi : ix (nI i) = i := ix_nI (by omega)
      obtain ⟨c1, -, c2, -⟩ := hs i hi
      have iu : inb (nI (us σ i)) 200 := inb_nI' (by omega) (by decide)
      have xu : ix (nI (us σ i)) = us σ i := ix_nI (by omega)
      obtain ⟨r, r1, r2⟩ : ∃ r, timV h (tA σ 241 i) = some r ∧ addV (tA σ 240 i) r = some v := by
        unfold mvV at g
        cases e : timV h (tA σ 241 i) with
        | none => rw [e] at g; cases g
        | some r => rw [e] at g; exact ⟨r, rfl, g⟩
      refine ⟨tsA σ' 166 (us σ i) v, ?_, f.p_tsA rfl, fun j => ?_⟩
      · show L_move_241_2 (n + 1) h (nI i) σ' = _
        rw [L_move_241_2, ifF t, t_isBad0 h0', ob_some, ifT (rfl : (0 : Int32) = 0), ifT ii, xi, (f 241 rfl).2.2.1, t_tim1 r1, ob_some, t_isBad0 h0', ob_some, ifT (rfl : (0 : Int32) = 0), ifT ii, ifT ii, (f 240 rfl).2.2.1, t_fit1 r2, ob_some, (f 207 rfl).2.2.1, c2, ifT iu, xu, nm_eq, nm_eq, p1n]
      · show tA (tsA σ' 166 (us σ i) v) 166 j = if j = us σ i then (mvV h (tA σ 240 i) (tA σ 241 i)).getD 0 else wrS (us σ) (fun i => (mvV h (tA σ 240 i) (tA σ 241 i)).getD 0) i (tA σ 166) j
        rw [tA_tsA, g]
        by_cases z : j = us σ i
        · rw [ifT ⟨rfl, z⟩, ifT z]; rfl
        · rw [ifF (fun y => z y.2), ifF z]; exact hv j) (fun n i σ' hi ⟨f, hv⟩ g => by
      have t : ¬ tI σ' 198 ≤ nI i := by rw [(f 198 rfl).1, h198, bI_le (by omega) (by omega)]; omega
      have h0' : tI σ' 0 = 0 := (f 0 rfl).1.trans h0
      have ii : inb (nI i) 200 := inb_nI' (by omega) (by decide)
      have xi : ix (nI i) = i := ix_nI (by omega)
      obtain ⟨c1, -, c2, -⟩ := hs i hi
      have iu : inb (nI (us σ i)) 200 := inb_nI' (by omega) (by decide)
      have xu : ix (nI (us σ i)) = us σ i := ix_nI (by omega)
      have b0 : B41 [0, 1, 166] σ (badT σ' 41) := ⟨(f.mono (by decide)).tr (badT_f.mono (by decide)), rfl, rfl⟩
      show ∃ σ1, L_move_241_2 (n + 2) h (nI i) σ' = some ((), σ1) ∧ B41 [0, 1, 166] σ σ1
      rw [show n + 2 = n + 1 + 1 from rfl, L_move_241_2, ifF t, t_isBad0 h0', ob_some, ifT (rfl : (0 : Int32) = 0), ifT ii, xi, (f 241 rfl).2.2.1]
      unfold mvV at g
      cases e : timV h (tA σ 241 i) with
      | none =>
        rw [t_tim0 h0' e, ob_some, t_isBad1 bad41, ob_some, ifF (show ¬ (1 : Int32) = 0 by decide), nm_eq, t_mvF241 bad41]
        exact ⟨_, rfl, b0⟩
      | some r =>
        rw [e] at g
        have c2' : tA σ' 207 i = nI (us σ i) := by rw [(f 207 rfl).2.2.1]; exact c2
        rw [t_tim1 e, ob_some, t_isBad0 h0', ob_some, ifT (rfl : (0 : Int32) = 0), ifT ii, ifT ii, (f 240 rfl).2.2.1, t_fit0 h0' g, ob_some, c2', ifT iu, xu, nm_eq, nm_eq, t_mvF241 (s := tsA (badT σ' 41) 166 (us σ i) 0) (bad41 (σ := σ'))]
        exact ⟨_, rfl, b0.tr ((Ft.rf _ _).p_tsA rfl) ⟨rfl, rfl⟩⟩) ns 0 FU σ (by omega) (by omega) ⟨Ft.rf _ _, fun j => rfl⟩
  unfold F_move_241
  rcases lp with ⟨a1, σ', a2, a3, a4⟩ | ⟨⟨j, ⟨-, j2⟩, j3⟩, σ1, a2, a3⟩
  · exact Or.inl ⟨fun j hj => a1 j (Nat.zero_le _) hj, σ', by rw [show L_move_241_2 FU h 0 σ = _ from a2, ob_some], a3, a4⟩
  · exact Or.inr ⟨⟨j, j2, j3⟩, σ1, by rw [show L_move_241_2 FU h 0 σ = _ from a2, ob_some], a3⟩
/-- places are moved, the twin, row 242 -/
theorem t_mvF242 (hs : tI s 0 ≠ 0) {f : Nat} : L_move_242_2 (f + 1) x y s = some ((), s) := by
  rw [L_move_242_2]
  by_cases z : tI s 198 ≤ y
  · rw [ifT z]
  · rw [ifF z, t_isBad1 hs, ob_some, ifF (show ¬ (1 : Int32) = 0 by decide)]
theorem t_mv242F (hs : tI s 0 ≠ 0) : F_move_242 x s = some ((), s) := by
  obtain ⟨g, hg⟩ := fuEx
  unfold F_move_242
  rw [hg, t_mvF242 hs, ob_some]
theorem t_mv242 (st : SaR ns U M σ) (h0 : tI σ 0 = 0) (h : Int32) :
    ((∀ j, j < ns → mvV h (tA σ 240 j) (tA σ 242 j) ≠ none) ∧ ∃ σ', F_move_242 h σ = some ((), σ') ∧ Ft [166] σ σ' ∧ ∀ j, tA σ' 166 j = wrS (us σ) (fun i => (mvV h (tA σ 240 i) (tA σ 242 i)).getD 0) ns (tA σ 166) j) ∨
    ((∃ j, j < ns ∧ mvV h (tA σ 240 j) (tA σ 242 j) = none) ∧ ∃ σ1, F_move_242 h σ = some ((), σ1) ∧ B41 [0, 1, 166] σ σ1) := by
  have fu : 1000 < FU := by unfold FU; decide
  obtain ⟨⟨h74, h198, n24, U180⟩, hs⟩ := st
  have lp := loopTV (L := fun n i s => L_move_242_2 n h i s) (X := ns) (fun i => mvV h (tA σ 240 i) (tA σ 242 i)) (fun i σ' => Ft [166] σ σ' ∧ ∀ j, tA σ' 166 j = wrS (us σ) (fun i => (mvV h (tA σ 240 i) (tA σ 242 i)).getD 0) i (tA σ 166) j) (B41 [0, 1, 166] σ) (fun n σ' ⟨f, _⟩ => by
      have t : tI σ' 198 ≤ nI ns := by rw [(f 198 rfl).1, h198, bI_le (by omega) (by omega)]; omega
      show L_move_242_2 (n + 1) h (nI ns) σ' = _
      rw [L_move_242_2, ifT t]) (fun n i σ' v hi ⟨f, hv⟩ g => by
      have t : ¬ tI σ' 198 ≤ nI i := by rw [(f 198 rfl).1, h198, bI_le (by omega) (by omega)]; omega
      have h0' : tI σ' 0 = 0 := (f 0 rfl).1.trans h0
      have ii : inb (nI i) 200 := inb_nI' (by omega) (by decide)
      have xi : ix (nI i) = i := ix_nI (by omega)
      obtain ⟨c1, -, c2, -⟩ := hs i hi
      have iu : inb (nI (us σ i)) 200 := inb_nI' (by omega) (by decide)
      have xu : ix (nI (us σ i)) = us σ i := ix_nI (by omega)
      obtain ⟨r, r1, r2⟩ : ∃ r, timV h (tA σ 242 i) = some r ∧ addV (tA σ 240 i) r = some v := by
        unfold mvV at g
        cases e : timV h (tA σ 242 i) with
        | none => rw [e] at g; cases g
        | some r => rw [e] at g; exact ⟨r, rfl, g⟩
      refine ⟨tsA σ' 166 (us σ i) v, ?_, f.p_tsA rfl, fun j => ?_⟩
      · show L_move_242_2 (n + 1) h (nI i) σ' = _
        rw [L_move_242_2, ifF t, t_isBad0 h0', ob_some, ifT (rfl : (0 : Int32) = 0), ifT ii, xi, (f 242 rfl).2.2.1, t_tim1 r1, ob_some, t_isBad0 h0', ob_some, ifT (rfl : (0 : Int32) = 0), ifT ii, ifT ii, (f 240 rfl).2.2.1, t_fit1 r2, ob_some, (f 207 rfl).2.2.1, c2, ifT iu, xu, nm_eq, nm_eq, p1n]
      · show tA (tsA σ' 166 (us σ i) v) 166 j = if j = us σ i then (mvV h (tA σ 240 i) (tA σ 242 i)).getD 0 else wrS (us σ) (fun i => (mvV h (tA σ 240 i) (tA σ 242 i)).getD 0) i (tA σ 166) j
        rw [tA_tsA, g]
        by_cases z : j = us σ i
        · rw [ifT ⟨rfl, z⟩, ifT z]; rfl
        · rw [ifF (fun y => z y.2), ifF z]; exact hv j) (fun n i σ' hi ⟨f, hv⟩ g => by
      have t : ¬ tI σ' 198 ≤ nI i := by rw [(f 198 rfl).1, h198, bI_le (by omega) (by omega)]; omega
      have h0' : tI σ' 0 = 0 := (f 0 rfl).1.trans h0
      have ii : inb (nI i) 200 := inb_nI' (by omega) (by decide)
      have xi : ix (nI i) = i := ix_nI (by omega)
      obtain ⟨c1, -, c2, -⟩ := hs i hi
      have iu : inb (nI (us σ i)) 200 := inb_nI' (by omega) (by decide)
      have xu : ix (nI (us σ i)) = us σ i := ix_nI (by omega)
      have b0 : B41 [0, 1, 166] σ (badT σ' 41) := ⟨(f.mono (by decide)).tr (badT_f.mono (by decide)), rfl, rfl⟩
      show ∃ σ1, L_move_242_2 (n + 2) h (nI i) σ' = some ((), σ1) ∧ B41 [0, 1, 166] σ σ1
      rw [show n + 2 = n + 1 + 1 from rfl, L_move_242_2, ifF t, t_isBad0 h0', ob_some, ifT (rfl : (0 : Int32) = 0), ifT ii, xi, (f 242 rfl).2.2.1]
      unfold mvV at g
      cases e : timV h (tA σ 242 i) with
      | none =>
        rw [t_tim0 h0' e, ob_some, t_isBad1 bad41, ob_some, ifF (show ¬ (1 : Int32) = 0 by decide), nm_eq, t_mvF242 bad41]
        exact ⟨_, rfl, b0⟩
      | some r =>
        rw [e] at g
        have c2' : tA σ' 207 i = nI (us σ i) := by rw [(f 207 rfl).2.2.1]; exact c2
        rw [t_tim1 e, ob_some, t_isBad0 h0', ob_some, ifT (rfl : (0 : Int32) = 0), ifT ii, ifT ii, (f 240 rfl).2.2.1, t_fit0 h0' g, ob_some, c2', ifT iu, xu, nm_eq, nm_eq, t_mvF242 (s := tsA (badT σ' 41) 166 (us σ i) 0) (bad41 (σ := σ'))]
        exact ⟨_, rfl, b0.tr ((Ft.rf _ _).p_tsA rfl) ⟨rfl, rfl⟩⟩) ns 0 FU σ (by omega) (by omega) ⟨Ft.rf _ _, fun j => rfl⟩
  unfold F_move_242
  rcases lp with ⟨a1, σ', a2, a3, a4⟩ | ⟨⟨j, ⟨-, j2⟩, j3⟩, σ1, a2, a3⟩
  · exact Or.inl ⟨fun j hj => a1 j (Nat.zero_le _) hj, σ', by rw [show L_move_242_2 FU h 0 σ = _ from a2, ob_some], a3, a4⟩
  · exact Or.inr ⟨⟨j, j2, j3⟩, σ1, by rw [show L_move_242_2 FU h 0 σ = _ from a2, ob_some], a3⟩
/-- places are moved, the twin, row 243 -/
theorem t_mvF243 (hs : tI s 0 ≠ 0) {f : Nat} : L_move_243_2 (f + 1) x y s = some ((), s) := by
  rw [L_move_243_2]
  by_cases z : tI s 198 ≤ y
  · rw [ifT z]
  · rw [ifF z, t_isBad1 hs, ob_some, ifF (show ¬ (1 : Int32) = 0 by decide)]
theorem t_mv243F (hs : tI s 0 ≠ 0) : F_move_243 x s = some ((), s) := by
  obtain ⟨g, hg⟩ := fuEx
  unfold F_move_243
  rw [hg, t_mvF243 hs, ob_some]
theorem t_mv243 (st : SaR ns U M σ) (h0 : tI σ 0 = 0) (h : Int32) :
    ((∀ j, j < ns → mvV h (tA σ 240 j) (tA σ 243 j) ≠ none) ∧ ∃ σ', F_move_243 h σ = some ((), σ') ∧ Ft [166] σ σ' ∧ ∀ j, tA σ' 166 j = wrS (us σ) (fun i => (mvV h (tA σ 240 i) (tA σ 243 i)).getD 0) ns (tA σ 166) j) ∨
    ((∃ j, j < ns ∧ mvV h (tA σ 240 j) (tA σ 243 j) = none) ∧ ∃ σ1, F_move_243 h σ = some ((), σ1) ∧ B41 [0, 1, 166] σ σ1) := by
  have fu : 1000 < FU := by unfold FU; decide
  obtain ⟨⟨h74, h198, n24, U180⟩, hs⟩ := st
  have lp := loopTV (L := fun n i s => L_move_243_2 n h i s) (X := ns) (fun i => mvV h (tA σ 240 i) (tA σ 243 i)) (fun i σ' => Ft [166] σ σ' ∧ ∀ j, tA σ' 166 j = wrS (us σ) (fun i => (mvV h (tA σ 240 i) (tA σ 243 i)).getD 0) i (tA σ 166) j) (B41 [0, 1, 166] σ) (fun n σ' ⟨f, _⟩ => by
      have t : tI σ' 198 ≤ nI ns := by rw [(f 198 rfl).1, h198, bI_le (by omega) (by omega)]; omega
      show L_move_243_2 (n + 1) h (nI ns) σ' = _
      rw [L_move_243_2, ifT t]) (fun n i σ' v hi ⟨f, hv⟩ g => by
      have t : ¬ tI σ' 198 ≤ nI i := by rw [(f 198 rfl).1, h198, bI_le (by omega) (by omega)]; omega
      have h0' : tI σ' 0 = 0 := (f 0 rfl).1.trans h0
      have ii : inb (nI i) 200 := inb_nI' (by omega) (by decide)
      have xi : ix (nI i) = i := ix_nI (by omega)
      obtain ⟨c1, -, c2, -⟩ := hs i hi
      have iu : inb (nI (us σ i)) 200 := inb_nI' (by omega) (by decide)
      have xu : ix (nI (us σ i)) = us σ i := ix_nI (by omega)
      obtain ⟨r, r1, r2⟩ : ∃ r, timV h (tA σ 243 i) = some r ∧ addV (tA σ 240 i) r = some v := by
        unfold mvV at g
        cases e : timV h (tA σ 243 i) with
        | none => rw [e] at g; cases g
        | some r => rw [e] at g; exact ⟨r, rfl, g⟩
      refine ⟨tsA σ' 166 (us σ i) v, ?_, f.p_tsA rfl, fun j => ?_⟩
      · show L_move_243_2 (n + 1) h (nI i) σ' = _
        rw [L_move_243_2, ifF t, t_isBad0 h0', ob_some, ifT (rfl : (0 : Int32) = 0), ifT ii, xi, (f 243 rfl).2.2.1, t_tim1 r1, ob_some, t_isBad0 h0', ob_some, ifT (rfl : (0 : Int32) = 0), ifT ii, ifT ii, (f 240 rfl).2.2.1, t_fit1 r2, ob_some, (f 207 rfl).2.2.1, c2, ifT iu, xu, nm_eq, nm_eq, p1n]
      · show tA (tsA σ' 166 (us σ i) v) 166 j = if j = us σ i then (mvV h (tA σ 240 i) (tA σ 243 i)).getD 0 else wrS (us σ) (fun i => (mvV h (tA σ 240 i) (tA σ 243 i)).getD 0) i (tA σ 166) j
        rw [tA_tsA, g]
        by_cases z : j = us σ i
        · rw [ifT ⟨rfl, z⟩, ifT z]; rfl
        · rw [ifF (fun y => z y.2), ifF z]; exact hv j) (fun n i σ' hi ⟨f, hv⟩ g => by
      have t : ¬ tI σ' 198 ≤ nI i := by rw [(f 198 rfl).1, h198, bI_le (by omega) (by omega)]; omega
      have h0' : tI σ' 0 = 0 := (f 0 rfl).1.trans h0
      have ii : inb (nI i) 200 := inb_nI' (by omega) (by decide)
      have xi : ix (nI i) = i := ix_nI (by omega)
      obtain ⟨c1, -, c2, -⟩ := hs i hi
      have iu : inb (nI (us σ i)) 200 := inb_nI' (by omega) (by decide)
      have xu : ix (nI (us σ i)) = us σ i := ix_nI (by omega)
      have b0 : B41 [0, 1, 166] σ (badT σ' 41) := ⟨(f.mono (by decide)).tr (badT_f.mono (by decide)), rfl, rfl⟩
      show ∃ σ1, L_move_243_2 (n + 2) h (nI i) σ' = some ((), σ1) ∧ B41 [0, 1, 166] σ σ1
      rw [show n + 2 = n + 1 + 1 from rfl, L_move_243_2, ifF t, t_isBad0 h0', ob_some, ifT (rfl : (0 : Int32) = 0), ifT ii, xi, (f 243 rfl).2.2.1]
      unfold mvV at g
      cases e : timV h (tA σ 243 i) with
      | none =>
        rw [t_tim0 h0' e, ob_some, t_isBad1 bad41, ob_some, ifF (show ¬ (1 : Int32) = 0 by decide), nm_eq, t_mvF243 bad41]
        exact ⟨_, rfl, b0⟩
      | some r =>
        rw [e] at g
        have c2' : tA σ' 207 i = nI (us σ i) := by rw [(f 207 rfl).2.2.1]; exact c2
        rw [t_tim1 e, ob_some, t_isBad0 h0', ob_some, ifT (rfl : (0 : Int32) = 0), ifT ii, ifT ii, (f 240 rfl).2.2.1, t_fit0 h0' g, ob_some, c2', ifT iu, xu, nm_eq, nm_eq, t_mvF243 (s := tsA (badT σ' 41) 166 (us σ i) 0) (bad41 (σ := σ'))]
        exact ⟨_, rfl, b0.tr ((Ft.rf _ _).p_tsA rfl) ⟨rfl, rfl⟩⟩) ns 0 FU σ (by omega) (by omega) ⟨Ft.rf _ _, fun j => rfl⟩
  unfold F_move_243
  rcases lp with ⟨a1, σ', a2, a3, a4⟩ | ⟨⟨j, ⟨-, j2⟩, j3⟩, σ1, a2, a3⟩
  · exact Or.inl ⟨fun j hj => a1 j (Nat.zero_le _) hj, σ', by rw [show L_move_243_2 FU h 0 σ = _ from a2, ob_some], a3, a4⟩
  · exact Or.inr ⟨⟨j, j2, j3⟩, σ1, by rw [show L_move_243_2 FU h 0 σ = _ from a2, ob_some], a3⟩
/-- rates are taken, the twin, row 241 -/
theorem t_ratL241 (st : SaR ns U M s) : ∃ σ', L_rates_241_14 FU 0 s = some ((), σ') ∧ Ft [241] s σ' ∧ ∀ i, i < ns → tA σ' 241 i = tA s 166 (ix (tA s 189 (us s i))) := by
  have fu : 1000 < FU := by unfold FU; decide
  obtain ⟨⟨h74, h198, n24, U180⟩, hs⟩ := st
  obtain ⟨σ', l1, l2, l3⟩ := loopT (L := fun n i s => L_rates_241_14 n i s) (X := ns) (fun i σ' => Ft [241] s σ' ∧ ∀ j, j < i → tA σ' 241 j = tA s 166 (ix (tA s 189 (us s j)))) (fun n σ' ⟨f, _⟩ => by
      have t : tI σ' 198 ≤ nI ns := by rw [(f 198 rfl).1, h198, bI_le (by omega) (by omega)]; omega
      show L_rates_241_14 (n + 1) (nI ns) σ' = _
      rw [L_rates_241_14, ifT t]) (fun n i σ' hi ⟨f, hv⟩ => by
      have t : ¬ tI σ' 198 ≤ nI i := by rw [(f 198 rfl).1, h198, bI_le (by omega) (by omega)]; omega
      have ii : inb (nI i) 200 := inb_nI' (by omega) (by decide)
      have xi : ix (nI i) = i := ix_nI (by omega)
      obtain ⟨c1, -, c2, w, w1, -, w3⟩ := hs i hi
      have iu : inb (nI (us s i)) 200 := inb_nI' (by omega) (by decide)
      have xu : ix (nI (us s i)) = us s i := ix_nI (by omega)
      have iw : inb (nI w) 200 := inb_nI' (by omega) (by decide)
      have xw : ix (nI w) = w := ix_nI (by omega)
      refine ⟨tsA σ' 241 i (tA s 166 w), ?_, f.p_tsA rfl, fun j hj => ?_⟩
      · show L_rates_241_14 (n + 1) (nI i) σ' = _
        rw [L_rates_241_14, ifF t, ifT ii, xi, (f 207 rfl).2.2.1, c2, ifT iu, xu, (f 189 rfl).2.2.1, w3, ifT iw, xw, ifT ii, (f 166 rfl).2.2.1, nm_eq, nm_eq, p1n]
      · rw [tA_tsA]
        by_cases z : j = i
        · rw [ifT ⟨rfl, z⟩, z, w3, xw]
        · rw [ifF (fun y => z y.2)]; exact hv j (by omega)) ns 0 FU s (by omega) (by omega) ⟨Ft.rf _ _, fun j hj => by omega⟩
  exact ⟨σ', l1, l2, l3⟩
theorem t_rat241F (hs : tI s 0 ≠ 0) : F_rates_241 s = some ((), s) := by
  unfold F_rates_241
  rw [t_isBad1 hs, ob_some, ifF (show ¬ (1 : Int32) = 0 by decide)]
/-- rates are taken, the twin, row 242 -/
theorem t_ratL242 (st : SaR ns U M s) : ∃ σ', L_rates_242_14 FU 0 s = some ((), σ') ∧ Ft [242] s σ' ∧ ∀ i, i < ns → tA σ' 242 i = tA s 166 (ix (tA s 189 (us s i))) := by
  have fu : 1000 < FU := by unfold FU; decide
  obtain ⟨⟨h74, h198, n24, U180⟩, hs⟩ := st
  obtain ⟨σ', l1, l2, l3⟩ := loopT (L := fun n i s => L_rates_242_14 n i s) (X := ns) (fun i σ' => Ft [242] s σ' ∧ ∀ j, j < i → tA σ' 242 j = tA s 166 (ix (tA s 189 (us s j)))) (fun n σ' ⟨f, _⟩ => by
      have t : tI σ' 198 ≤ nI ns := by rw [(f 198 rfl).1, h198, bI_le (by omega) (by omega)]; omega
      show L_rates_242_14 (n + 1) (nI ns) σ' = _
      rw [L_rates_242_14, ifT t]) (fun n i σ' hi ⟨f, hv⟩ => by
      have t : ¬ tI σ' 198 ≤ nI i := by rw [(f 198 rfl).1, h198, bI_le (by omega) (by omega)]; omega
      have ii : inb (nI i) 200 := inb_nI' (by omega) (by decide)
      have xi : ix (nI i) = i := ix_nI (by omega)
      obtain ⟨c1, -, c2, w, w1, -, w3⟩ := hs i hi
      have iu : inb (nI (us s i)) 200 := inb_nI' (by omega) (by decide)
      have xu : ix (nI (us s i)) = us s i := ix_nI (by omega)
      have iw : inb (nI w) 200 := inb_nI' (by omega) (by decide)
      have xw : ix (nI w) = w := ix_nI (by omega)
      refine ⟨tsA σ' 242 i (tA s 166 w), ?_, f.p_tsA rfl, fun j hj => ?_⟩
      · show L_rates_242_14 (n + 1) (nI i) σ' = _
        rw [L_rates_242_14, ifF t, ifT ii, xi, (f 207 rfl).2.2.1, c2, ifT iu, xu, (f 189 rfl).2.2.1, w3, ifT iw, xw, ifT ii, (f 166 rfl).2.2.1, nm_eq, nm_eq, p1n]
      · rw [tA_tsA]
        by_cases z : j = i
        · rw [ifT ⟨rfl, z⟩, z, w3, xw]
        · rw [ifF (fun y => z y.2)]; exact hv j (by omega)) ns 0 FU s (by omega) (by omega) ⟨Ft.rf _ _, fun j hj => by omega⟩
  exact ⟨σ', l1, l2, l3⟩
theorem t_rat242F (hs : tI s 0 ≠ 0) : F_rates_242 s = some ((), s) := by
  unfold F_rates_242
  rw [t_isBad1 hs, ob_some, ifF (show ¬ (1 : Int32) = 0 by decide)]
/-- rates are taken, the twin, row 243 -/
theorem t_ratL243 (st : SaR ns U M s) : ∃ σ', L_rates_243_14 FU 0 s = some ((), σ') ∧ Ft [243] s σ' ∧ ∀ i, i < ns → tA σ' 243 i = tA s 166 (ix (tA s 189 (us s i))) := by
  have fu : 1000 < FU := by unfold FU; decide
  obtain ⟨⟨h74, h198, n24, U180⟩, hs⟩ := st
  obtain ⟨σ', l1, l2, l3⟩ := loopT (L := fun n i s => L_rates_243_14 n i s) (X := ns) (fun i σ' => Ft [243] s σ' ∧ ∀ j, j < i → tA σ' 243 j = tA s 166 (ix (tA s 189 (us s j)))) (fun n σ' ⟨f, _⟩ => by
      have t : tI σ' 198 ≤ nI ns := by rw [(f 198 rfl).1, h198, bI_le (by omega) (by omega)]; omega
      show L_rates_243_14 (n + 1) (nI ns) σ' = _
      rw [L_rates_243_14, ifT t]) (fun n i σ' hi ⟨f, hv⟩ => by
      have t : ¬ tI σ' 198 ≤ nI i := by rw [(f 198 rfl).1, h198, bI_le (by omega) (by omega)]; omega
      have ii : inb (nI i) 200 := inb_nI' (by omega) (by decide)
      have xi : ix (nI i) = i := ix_nI (by omega)
      obtain ⟨c1, -, c2, w, w1, -, w3⟩ := hs i hi
      have iu : inb (nI (us s i)) 200 := inb_nI' (by omega) (by decide)
      have xu : ix (nI (us s i)) = us s i := ix_nI (by omega)
      have iw : inb (nI w) 200 := inb_nI' (by omega) (by decide)
      have xw : ix (nI w) = w := ix_nI (by omega)
      refine ⟨tsA σ' 243 i (tA s 166 w), ?_, f.p_tsA rfl, fun j hj => ?_⟩
      · show L_rates_243_14 (n + 1) (nI i) σ' = _
        rw [L_rates_243_14, ifF t, ifT ii, xi, (f 207 rfl).2.2.1, c2, ifT iu, xu, (f 189 rfl).2.2.1, w3, ifT iw, xw, ifT ii, (f 166 rfl).2.2.1, nm_eq, nm_eq, p1n]
      · rw [tA_tsA]
        by_cases z : j = i
        · rw [ifT ⟨rfl, z⟩, z, w3, xw]
        · rw [ifF (fun y => z y.2)]; exact hv j (by omega)) ns 0 FU s (by omega) (by omega) ⟨Ft.rf _ _, fun j hj => by omega⟩
  exact ⟨σ', l1, l2, l3⟩
theorem t_rat243F (hs : tI s 0 ≠ 0) : F_rates_243 s = some ((), s) := by
  unfold F_rates_243
  rw [t_isBad1 hs, ob_some, ifF (show ¬ (1 : Int32) = 0 by decide)]
/-- rates are taken, the twin, row 244 -/
theorem t_ratL244 (st : SaR ns U M s) : ∃ σ', L_rates_244_14 FU 0 s = some ((), σ') ∧ Ft [244] s σ' ∧ ∀ i, i < ns → tA σ' 244 i = tA s 166 (ix (tA s 189 (us s i))) := by
  have fu : 1000 < FU := by unfold FU; decide
  obtain ⟨⟨h74, h198, n24, U180⟩, hs⟩ := st
  obtain ⟨σ', l1, l2, l3⟩ := loopT (L := fun n i s => L_rates_244_14 n i s) (X := ns) (fun i σ' => Ft [244] s σ' ∧ ∀ j, j < i → tA σ' 244 j = tA s 166 (ix (tA s 189 (us s j)))) (fun n σ' ⟨f, _⟩ => by
      have t : tI σ' 198 ≤ nI ns := by rw [(f 198 rfl).1, h198, bI_le (by omega) (by omega)]; omega
      show L_rates_244_14 (n + 1) (nI ns) σ' = _
      rw [L_rates_244_14, ifT t]) (fun n i σ' hi ⟨f, hv⟩ => by
      have t : ¬ tI σ' 198 ≤ nI i := by rw [(f 198 rfl).1, h198, bI_le (by omega) (by omega)]; omega
      have ii : inb (nI i) 200 := inb_nI' (by omega) (by decide)
      have xi : ix (nI i) = i := ix_nI (by omega)
      obtain ⟨c1, -, c2, w, w1, -, w3⟩ := hs i hi
      have iu : inb (nI (us s i)) 200 := inb_nI' (by omega) (by decide)
      have xu : ix (nI (us s i)) = us s i := ix_nI (by omega)
      have iw : inb (nI w) 200 := inb_nI' (by omega) (by decide)
      have xw : ix (nI w) = w := ix_nI (by omega)
      refine ⟨tsA σ' 244 i (tA s 166 w), ?_, f.p_tsA rfl, fun j hj => ?_⟩
      · show L_rates_244_14 (n + 1) (nI i) σ' = _
        rw [L_rates_244_14, ifF t, ifT ii, xi, (f 207 rfl).2.2.1, c2, ifT iu, xu, (f 189 rfl).2.2.1, w3, ifT iw, xw, ifT ii, (f 166 rfl).2.2.1, nm_eq, nm_eq, p1n]
      · rw [tA_tsA]
        by_cases z : j = i
        · rw [ifT ⟨rfl, z⟩, z, w3, xw]
        · rw [ifF (fun y => z y.2)]; exact hv j (by omega)) ns 0 FU s (by omega) (by omega) ⟨Ft.rf _ _, fun j hj => by omega⟩
  exact ⟨σ', l1, l2, l3⟩
theorem t_rat244F (hs : tI s 0 ≠ 0) : F_rates_244 s = some ((), s) := by
  unfold F_rates_244
  rw [t_isBad1 hs, ob_some, ifF (show ¬ (1 : Int32) = 0 by decide)]
end MOVE
