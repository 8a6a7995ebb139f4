/-! Layer B: steps: the fourth method's sums, both sides -/
set_option maxRecDepth 100000
def c1V (k1 k2 : Int32) : Option Int32 := (addV k2 k2).bind (addV k1)
def c2V (k1 k2 k3 : Int32) : Option Int32 := (c1V k1 k2).bind fun b => (addV k3 k3).bind (addV b)
def c3V (k1 k2 k3 k4 : Int32) : Option Int32 := (c2V k1 k2 k3).bind fun d => addV d k4
def lstV (h x0 e : Int32) : Option Int32 := (timV h e).bind fun p => (ovV p).bind (addV x0)
def c4V (h x0 k1 k2 k3 k4 : Int32) : Option Int32 := (c3V k1 k2 k3 k4).bind (lstV h x0)
section TAIL
variable {pq : Bool} {C : PC} {B : Nat} {P : Nat → Prop} {mss fss : List Nat} {V U S q A Wn K1 K2 N e r w v b n i j k m kf tf a ns : Nat} {D : FQ} {M M' M1 : CM} {σ σ' s s1 s2 : TS} {x x1 x2 x3 y z y1 y2 y3 t1 h t : Int32} {I A0 T : List Nat} {l : List (Nat × Nat)}
theorem b_ex {α β : Type} {o : Option α} {f : α → Option β} {v : β} (h : o.bind f = some v) : ∃ r, o = some r ∧ f r = some v := by
  cases o with
  | none => cases h
  | some r => exact ⟨r, rfl, h⟩
/-- row 159 becomes a sum -/
theorem k_sum (st : SaR ns U M σ) (ha : mk M 159 = 50 ∧ ml M 159 = 180) (hb : mk M b = 50 ∧ ml M b = 180) (nb : b ≠ 159) (hc : mn M ≤ 601024 ∧ ms M + 8 ≤ 7293034) (hn : mn M ≠ 0) :
    ((∀ j, j < ns → c1V (mA M 159 j) (mA M b j) ≠ none) ∧ ∃ M', K_X0_sum 159 b M = some (.inl (), M') ∧ KF D [] [] [159] [] M M' ∧ ∀ j, j < ns → mA M' 159 j = (c1V (mA M 159 j) (mA M b j)).getD 0) ∨
    ((∃ j, j < ns ∧ c1V (mA M 159 j) (mA M b j) = none) ∧ ∃ M1, K_X0_sum 159 b M = some (.inr (mn M1), wM M1 41 0) ∧ KF D [] [] [159] [] M M1) := by
  have fu : 1000 < FU := by unfold FU; decide
  obtain ⟨⟨h74, h198, n24, U180⟩, hs⟩ := st
  have cb : ([159] : List Nat).contains b = false := by simp [nb]
  have lp := loopKV (L := fun n i s => KL_X0_sum_2 n 159 b i s) (X := ns) (fun i => c1V (mA M 159 i) (mA M b i)) (fun i M' => KF D [] [] [159] [] M M' ∧ (∀ j, j < i → mA M' 159 j = (c1V (mA M 159 j) (mA M b j)).getD 0) ∧ ∀ j, i ≤ j → mA M' 159 j = mA M 159 j) (fun n M' ⟨k, _⟩ => by
      have t : mI M' 74 1 ≤ nI ns := by rw [k.i rfl, h74, bI_le (by omega) (by omega)]; omega
      show KL_X0_sum_2 (n + 1) 159 b (nI ns) M' = _
      rw [KL_X0_sum_2, ifT t]) (fun n i M' v hi ⟨k, hv, hw⟩ g => by
      have t : ¬ mI M' 74 1 ≤ nI i := by rw [k.i rfl, h74, bI_le (by omega) (by omega)]; omega
      have ii : inb (nI i) 180 := inb_nI' (by omega) (by decide)
      have xi : ix (nI i) = i := ix_nI (by omega)
      have ia : mk M' 159 = 50 ∧ inb (nI i) (ml M' 159) := ⟨(k.k _).trans ha.1, by rw [k.gl, ha.2]; exact ii⟩
      have ib : mk M' b = 50 ∧ inb (nI i) (ml M' b) := ⟨(k.k _).trans hb.1, by rw [k.gl, hb.2]; exact ii⟩
      obtain ⟨r, r1, r2⟩ := b_ex g
      refine ⟨mwA M' 159 i v, ?_, k.wA rfl (by decide), fun j hj => ?_, fun j hj => ?_⟩
      · show KL_X0_sum_2 (n + 1) 159 b (nI i) M' = _
        rw [KL_X0_sum_2, ifF t, ifT ia, ifT ib, ifT ib, xi, k.ga cb, k_in1 r1, obS_inl, hw i (Nat.le_refl _), k_in1 r2, obS_inl, ifT ia, nm_eq, nm_eq, p1n]
      · rw [mA_mwA]
        by_cases z : j = i
        · rw [ifT ⟨rfl, z⟩, z, g]; rfl
        · rw [ifF (fun y => z y.2)]; exact hv j (by omega)
      · rw [mA_mwA, ifF (fun y => by omega)]; exact hw j (by omega)) (fun n i M' hi ⟨k, hv, hw⟩ g => by
      have t : ¬ mI M' 74 1 ≤ nI i := by rw [k.i rfl, h74, bI_le (by omega) (by omega)]; omega
      have ii : inb (nI i) 180 := inb_nI' (by omega) (by decide)
      have xi : ix (nI i) = i := ix_nI (by omega)
      have ia : mk M' 159 = 50 ∧ inb (nI i) (ml M' 159) := ⟨(k.k _).trans ha.1, by rw [k.gl, ha.2]; exact ii⟩
      have ib : mk M' b = 50 ∧ inb (nI i) (ml M' b) := ⟨(k.k _).trans hb.1, by rw [k.gl, hb.2]; exact ii⟩
      have en : mn M' = mn M := k.n
      have es : ms M' = ms M := k.2.2.2.2.2.2.2.2
      have hc' : mn M' ≤ 601024 ∧ ms M' + 8 ≤ 7293034 := by rw [en, es]; exact hc
      have hn' : mn M' ≠ 0 := by rw [en]; exact hn
      show KL_X0_sum_2 (n + 1) 159 b (nI i) M' = _
      rw [KL_X0_sum_2, ifF t, ifT ia, ifT ib, ifT ib, xi, k.ga cb]
      have g : (addV (mA M b i) (mA M b i)).bind (addV (mA M 159 i)) = none := g
      cases e : addV (mA M b i) (mA M b i) with
      | none => rw [k_in0 hc' hn' e, obS_inr]
      | some r =>
        rw [e] at g
        rw [k_in1 e, obS_inl, hw i (Nat.le_refl _), k_in0 hc' hn' g, obS_inr]) ns 0 FU M (by omega) (by omega) ⟨KF.rf, fun j hj => by omega, fun j hj => rfl⟩
  unfold K_X0_sum
  rcases lp with ⟨a1, M', a2, a3, a4, -⟩ | ⟨⟨j, ⟨-, j2⟩, j3⟩, k, M1, a2, a3, -⟩
  · exact Or.inl ⟨fun j hj => a1 j (Nat.zero_le _) hj, M', by rw [show KL_X0_sum_2 FU 159 b 0 M = _ from a2, obS_inl], a3, a4⟩
  · exact Or.inr ⟨⟨j, j2, j3⟩, M1, by rw [show KL_X0_sum_2 FU 159 b 0 M = _ from a2, obS_inr], a3⟩
/-- row 162 is added -/
theorem k_s213 (st : SaR ns U M σ) (hc : mn M ≤ 601024 ∧ ms M + 8 ≤ 7293034) (hn : mn M ≠ 0) (x1 x2 : Int32) :
    ((∀ j, j < ns → addV (mA M 159 j) (mA M 162 j) ≠ none) ∧ ∃ M', KL_X0_step_213 FU x1 x2 0 M = some (.inl (), M') ∧ KF D [] [] [159] [] M M' ∧ ∀ j, j < ns → mA M' 159 j = (addV (mA M 159 j) (mA M 162 j)).getD 0) ∨
    ((∃ j, j < ns ∧ addV (mA M 159 j) (mA M 162 j) = none) ∧ ∃ M1, KL_X0_step_213 FU x1 x2 0 M = some (.inr (.inr (mn M1)), wM M1 41 0) ∧ KF D [] [] [159] [] M M1) := by
  have fu : 1000 < FU := by unfold FU; decide
  obtain ⟨⟨h74, h198, n24, U180⟩, hs⟩ := st
  have lp := loopKV (L := fun n i s => KL_X0_step_213 n x1 x2 i s) (X := ns) (fun i => addV (mA M 159 i) (mA M 162 i)) (fun i M' => KF D [] [] [159] [] M M' ∧ (∀ j, j < i → mA M' 159 j = (addV (mA M 159 j) (mA M 162 j)).getD 0) ∧ ∀ j, i ≤ j → mA M' 159 j = mA M 159 j) (fun n M' ⟨k, _⟩ => by
      have t : mI M' 74 1 ≤ nI ns := by rw [k.i rfl, h74, bI_le (by omega) (by omega)]; omega
      show KL_X0_step_213 (n + 1) x1 x2 (nI ns) M' = _
      rw [KL_X0_step_213, ifT t]) (fun n i M' v hi ⟨k, hv, hw⟩ g => by
      have t : ¬ mI M' 74 1 ≤ nI i := by rw [k.i rfl, h74, bI_le (by omega) (by omega)]; omega
      have ii : inb (nI i) 180 := inb_nI' (by omega) (by decide)
      have xi : ix (nI i) = i := ix_nI (by omega)
      refine ⟨mwA M' 159 i v, ?_, k.wA rfl (by decide), fun j hj => ?_, fun j hj => ?_⟩
      · show KL_X0_step_213 (n + 1) x1 x2 (nI i) M' = _
        rw [KL_X0_step_213, ifF t, ifT ii, ifT ii, xi, hw i (Nat.le_refl _), k.ga rfl, k_in1 g, obS_inl, ifT ii, nm_eq, nm_eq, p1n]
      · rw [mA_mwA]
        by_cases z : j = i
        · rw [ifT ⟨rfl, z⟩, z, g]; rfl
        · rw [ifF (fun y => z y.2)]; exact hv j (by omega)
      · rw [mA_mwA, ifF (fun y => by omega)]; exact hw j (by omega)) (fun n i M' hi ⟨k, hv, hw⟩ g => by
      have t : ¬ mI M' 74 1 ≤ nI i := by rw [k.i rfl, h74, bI_le (by omega) (by omega)]; omega
      have ii : inb (nI i) 180 := inb_nI' (by omega) (by decide)
      have xi : ix (nI i) = i := ix_nI (by omega)
      have en : mn M' = mn M := k.n
      have es : ms M' = ms M := k.2.2.2.2.2.2.2.2
      have hc' : mn M' ≤ 601024 ∧ ms M' + 8 ≤ 7293034 := by rw [en, es]; exact hc
      have hn' : mn M' ≠ 0 := by rw [en]; exact hn
      show KL_X0_step_213 (n + 1) x1 x2 (nI i) M' = _
      rw [KL_X0_step_213, ifF t, ifT ii, ifT ii, xi, hw i (Nat.le_refl _), k.ga rfl, k_in0 hc' hn' g, obS_inr]) ns 0 FU M (by omega) (by omega) ⟨KF.rf, fun j hj => by omega, fun j hj => rfl⟩
  rcases lp with ⟨a1, M', a2, a3, a4, -⟩ | ⟨⟨j, ⟨-, j2⟩, j3⟩, k, M1, a2, a3, -⟩
  · exact Or.inl ⟨fun j hj => a1 j (Nat.zero_le _) hj, M', a2, a3, a4⟩
  · exact Or.inr ⟨⟨j, j2, j3⟩, M1, a2, a3⟩
/-- the last move of the fourth method -/
theorem k_mv2 (st : SaR ns U M σ) (h93 : mI M 93 1 = 2) (hc : mn M ≤ 601024 ∧ ms M + 8 ≤ 7293034) (hn : mn M ≠ 0) (h : Int32) :
    ((∀ j, j < ns → lstV h (mA M 158 j) (mA M 159 j) ≠ none) ∧ ∃ M', KL_X0_step_304 FU h 0 M = some (.inl (), M') ∧ KF D [] [] [124] [] M M' ∧ ∀ j, mA M' 124 j = wrS (us σ) (fun i => (lstV h (mA M 158 i) (mA M 159 i)).getD 0) ns (mA M 124) j) ∨
    ((∃ j, j < ns ∧ lstV h (mA M 158 j) (mA M 159 j) = none) ∧ ∃ M1, KL_X0_step_304 FU h 0 M = some (.inr (.inr (mn M1)), wM M1 41 0) ∧ KF D [] [] [124] [] M M1) := by
  have fu : 1000 < FU := by unfold FU; decide
  obtain ⟨⟨h74, h198, n24, U180⟩, hs⟩ := st
  have lp := loopKV (L := fun n i s => KL_X0_step_304 n h i s) (X := ns) (fun i => lstV h (mA M 158 i) (mA M 159 i)) (fun i M' => KF D [] [] [124] [] M M' ∧ ∀ j, mA M' 124 j = wrS (us σ) (fun i => (lstV h (mA M 158 i) (mA M 159 i)).getD 0) i (mA M 124) j) (fun n M' ⟨k, _⟩ => by
      have t : mI M' 74 1 ≤ nI ns := by rw [k.i rfl, h74, bI_le (by omega) (by omega)]; omega
      show KL_X0_step_304 (n + 1) h (nI ns) M' = _
      rw [KL_X0_step_304, ifT t]) (fun n i M' v hi ⟨k, hv⟩ g => by
      have t : ¬ mI M' 74 1 ≤ nI i := by rw [k.i rfl, h74, bI_le (by omega) (by omega)]; omega
      have ii : inb (nI i) 180 := inb_nI' (by omega) (by decide)
      have xi : ix (nI i) = i := ix_nI (by omega)
      obtain ⟨c1, c2, -⟩ := hs i hi
      have iu : inb (nI (us σ i)) 180 := inb_nI' (by omega) (by decide)
      have xu : ix (nI (us σ i)) = us σ i := ix_nI (by omega)
      have h93' : mI M' 93 1 = 2 := by rw [k.i rfl]; exact h93
      obtain ⟨p, p1, g1⟩ := b_ex g
      obtain ⟨q, q1, q2⟩ := b_ex g1
      refine ⟨mwA M' 124 (us σ i) v, ?_, k.wA rfl (by decide), fun j => ?_⟩
      · show KL_X0_step_304 (n + 1) h (nI i) M' = _
        rw [KL_X0_step_304, ifF t, ifT ii, xi, k.ga rfl, k_tim1 p1, obS_inl, ifT ii, ifT ii, ifT h93', k_ov1 q1, obS_inl, k.ga rfl, k_in1 q2, obS_inl, k.ga rfl, c2, ifT iu, xu, nm_eq, nm_eq, p1n]
      · show mA (mwA M' 124 (us σ i) v) 124 j = if j = us σ i then (lstV h (mA M 158 i) (mA M 159 i)).getD 0 else wrS (us σ) (fun i => (lstV h (mA M 158 i) (mA M 159 i)).getD 0) i (mA M 124) j
        rw [mA_mwA, g]
        by_cases z : j = us σ i
        · rw [ifT ⟨rfl, z⟩, ifT z]; rfl
        · rw [ifF (fun y => z y.2), ifF z]; exact hv j) (fun n i M' hi ⟨k, hv⟩ g => by
      have t : ¬ mI M' 74 1 ≤ nI i := by rw [k.i rfl, h74, bI_le (by omega) (by omega)]; omega
      have ii : inb (nI i) 180 := inb_nI' (by omega) (by decide)
      have xi : ix (nI i) = i := ix_nI (by omega)
      obtain ⟨en, es⟩ := KF.a1 k
      have hc' : mn M' ≤ 601024 ∧ ms M' + 8 ≤ 7293034 := by rw [en, es]; exact hc
      have hn' : mn M' ≠ 0 := by rw [en]; exact hn
      have h93' : mI M' 93 1 = 2 := by rw [k.i rfl]; exact h93
      show KL_X0_step_304 (n + 1) h (nI i) M' = _
      rw [KL_X0_step_304, ifF t, ifT ii, xi, k.ga rfl]
      unfold lstV at g
      cases e : timV h (mA M 159 i) with
      | none => rw [k_tim0 hc' hn' e, obS_inr]
      | some p =>
        rw [e] at g
        have g : (ovV p).bind (addV (mA M 158 i)) = none := g
        rw [k_tim1 e, obS_inl, ifT ii, ifT ii, ifT h93']
        cases e2 : ovV p with
        | none => rw [k_ov0 hc' hn' e2, obS_inr]
        | some q =>
          rw [e2] at g
          rw [k_ov1 e2, obS_inl, k.ga rfl, k_in0 hc' hn' g, obS_inr]) ns 0 FU M (by omega) (by omega) ⟨KF.rf, fun j => rfl⟩
  rcases lp with ⟨a1, M', a2, a3, a4⟩ | ⟨⟨j, ⟨-, j2⟩, j3⟩, k, M1, a2, a3, -⟩
  · exact Or.inl ⟨fun j hj => a1 j (Nat.zero_le _) hj, M', a2, a3, a4⟩
  · exact Or.inr ⟨⟨j, j2, j3⟩, M1, a2, a3⟩
def kTail (h t : Int32) (M : CM) : Option ((Unit ⊕ Nat) × CM) := obS (K_X0_sum 159 160 M) (fun w M => some (.inr w, M)) fun _ M => obS (K_X0_sum 159 161 M) (fun w M => some (.inr w, M)) fun _ M => obS (KL_X0_step_213 FU h t 0 M) (fun r M => some (r, M)) fun _ M => KJ_X0_step_295 h t M
def kEndS (M : CM) : Option ((Unit ⊕ Nat) × CM) := obS (K_X0_solveBlocks M) (fun w57 M53 => some (.inr w57, M53)) fun _ M53 => some (.inl (), M53)
abbrev c4M (h : Int32) (M : CM) (j : Nat) : Option Int32 := c4V h (mA M 158 j) (mA M 159 j) (mA M 160 j) (mA M 161 j) (mA M 162 j)
theorem gd {o : Option Int32} (h : o ≠ none) : o = some (o.getD 0) := by
  cases o with
  | none => exact absurd rfl h
  | some v => rfl
/-- sums and the last move, the component -/
theorem k_tail (st : SaR ns U M σ) (h93 : mI M 93 1 = 2) (ar : ∀ a, a ∈ [159, 160, 161, 162] → mk M a = 50 ∧ ml M a = 180) (hc : mn M ≤ 601024 ∧ ms M + 8 ≤ 7293034) (hn : mn M ≠ 0) (h t : Int32) :
    ((∀ j, j < ns → c4M h M j ≠ none) ∧ ∃ M', kTail h t M = kEndS M' ∧ KF D [85] [] [124, 159] [] M M' ∧ mI M' 85 1 = t + h ∧ ∀ j, mA M' 124 j = wrS (us σ) (fun i => (c4M h M i).getD 0) ns (mA M 124) j) ∨
    ((∃ j, j < ns ∧ c4M h M j = none) ∧ ∃ M1, kTail h t M = some (.inr (mn M1), wM M1 41 0) ∧ KF D [85] [] [124, 159] [] M M1) := by
  have cn : ∀ {M' : CM}, KF D [] [] [159] [] M M' → (mn M' ≤ 601024 ∧ ms M' + 8 ≤ 7293034) ∧ mn M' ≠ 0 := fun k => by
    rw [k.n, k.2.2.2.2.2.2.2.2]; exact ⟨hc, hn⟩
  have mo : ∀ {M' : CM}, KF D [] [] [159] [] M M' → KF D [85] [] [124, 159] [] M M' := fun k => k.mono (by decide) (by decide) (by decide) (by decide)
  unfold kTail
  rcases k_sum (D := D) st (ar 159 (by decide)) (ar 160 (by decide)) (by decide) hc hn with ⟨a1, M1, a2, a3, a4⟩ | ⟨⟨j, j1, j2⟩, M1, a2, a3⟩
  · rw [a2, obS_inl]
    rcases k_sum (D := D) (st.up a3 (Ft.rf [] σ) rfl ⟨rfl, rfl⟩ rfl) (b := 161) ⟨(a3.k _).trans (ar 159 (by decide)).1, (a3.gl _).trans (ar 159 (by decide)).2⟩ ⟨(a3.k _).trans (ar 161 (by decide)).1, (a3.gl _).trans (ar 161 (by decide)).2⟩ (by decide) (cn a3).1 (cn a3).2 with ⟨b1, M2, b2, b3, b4⟩ | ⟨⟨j, j1, j2⟩, M2, b2, b3⟩
    · have e2 : ∀ j, j < ns → c2V (mA M 159 j) (mA M 160 j) (mA M 161 j) = some (mA M2 159 j) := fun j hj => by
        have x1 := gd (a1 j hj)
        have x2 := gd (b1 j hj)
        rw [a4 j hj, a3.ga rfl] at x2
        unfold c2V
        rw [x1, b4 j hj, a4 j hj, a3.ga rfl]
        exact x2
      have k2 := a3.tr b3
      rw [b2, obS_inl]
      rcases k_s213 (D := D) (st.up k2 (Ft.rf [] σ) rfl ⟨rfl, rfl⟩ rfl) (cn k2).1 (cn k2).2 h t with ⟨c1, M3, c2, c3, c4⟩ | ⟨⟨j, j1, j2⟩, M3, c2, c3⟩
      · have e3 : ∀ j, j < ns → c3V (mA M 159 j) (mA M 160 j) (mA M 161 j) (mA M 162 j) = some (mA M3 159 j) := fun j hj => by
          have x2 := gd (c1 j hj)
          rw [show mA M2 162 j = mA M 162 j from k2.ga rfl j] at x2
          unfold c3V
          rw [e2 j hj, c4 j hj, show mA M2 162 j = mA M 162 j from k2.ga rfl j]
          exact x2
        have k3 := k2.tr c3
        have k3' : KF D [85] [] [124, 159] [] M (msI M3 85 1 (t + h)) := (mo k3).tr (KF.rf.wI rfl TZ.one)
        have k4 : KF D [85] [] [] [] M3 (msI M3 85 1 (t + h)) := KF.rf.wI rfl TZ.one
        have e4 : ∀ j, j < ns → c4M h M j = lstV h (mA (msI M3 85 1 (t + h)) 158 j) (mA (msI M3 85 1 (t + h)) 159 j) := fun j hj => by
          show c4V h _ _ _ _ _ = _
          unfold c4V
          rw [e3 j hj, k4.ga rfl, k4.ga rfl, show mA M3 158 j = mA M 158 j from k3.ga rfl j]; rfl
        rw [c2, obS_inl]
        unfold KJ_X0_step_295
        rw [nm_eq]
        have st4 : SaR ns U (msI M3 85 1 (t + h)) σ := st.up k3' (Ft.rf [] σ) rfl ⟨rfl, rfl⟩ rfl
        rcases k_mv2 (D := D) st4 (by rw [k3'.i rfl]; exact h93) (by rw [k3'.n, k3'.2.2.2.2.2.2.2.2]; exact hc) (by rw [k3'.n]; exact hn) h with ⟨d1, M4, d2, d3, d4⟩ | ⟨⟨j, j1, j2⟩, M4, d2, d3⟩
        · refine Or.inl ⟨fun j hj => by rw [e4 j hj]; exact d1 j hj, M4, by rw [d2, obS_inl]; rfl, k3'.tr (d3.mono (by decide) (by decide) (by decide) (by decide)), by rw [d3.i rfl, mI_msI, ifT ⟨rfl, rfl⟩], fun j => ?_⟩
          rw [d4]
          exact wrS_eq (by rw [k4.ga rfl, k3.ga rfl]) ns (fun i hi => by rw [e4 i hi])
        · exact Or.inr ⟨⟨j, j1, by rw [e4 j j1]; exact j2⟩, M4, by rw [d2, obS_inr], k3'.tr (d3.mono (by decide) (by decide) (by decide) (by decide))⟩
      · refine Or.inr ⟨⟨j, j1, ?_⟩, M3, by rw [c2, obS_inr], mo (k2.tr c3)⟩
        rw [show mA M2 162 j = mA M 162 j from k2.ga rfl j] at j2
        show c4V h _ _ _ _ _ = _
        unfold c4V c3V
        rw [e2 j j1]
        show (addV (mA M2 159 j) (mA M 162 j)).bind _ = none
        rw [j2]; rfl
    · refine Or.inr ⟨⟨j, j1, ?_⟩, M2, by rw [b2, obS_inr], mo (a3.tr b3)⟩
      rw [a4 j j1, a3.ga rfl] at j2
      have x1 := gd (a1 j j1)
      show c4V h _ _ _ _ _ = _
      unfold c4V c3V c2V
      rw [x1]
      show (((addV (mA M 161 j) (mA M 161 j)).bind (addV ((c1V (mA M 159 j) (mA M 160 j)).getD 0))).bind _).bind _ = none
      have j2 : (addV (mA M 161 j) (mA M 161 j)).bind (addV ((c1V (mA M 159 j) (mA M 160 j)).getD 0)) = none := j2
      rw [j2]; rfl
  · refine Or.inr ⟨⟨j, j1, ?_⟩, M1, by rw [a2, obS_inr], mo a3⟩
    show c4V h _ _ _ _ _ = _
    unfold c4V c3V c2V
    rw [j2]; rfl
theorem t_363F (hs : tI s 0 ≠ 0) {rec : Int32 → Int32 → Int32 → TS → Option (Unit × TS)} : J_step_363_175 rec x1 x2 x3 y s = rec x1 x2 (x3 + 1) s := by
  unfold J_step_363_175
  rw [t_isBad1 hs, ob_some, ifF (show ¬ (1 : Int32) = 0 by decide), nm_eq]
theorem t_341F (hs : tI s 0 ≠ 0) {rec : Int32 → Int32 → Int32 → TS → Option (Unit × TS)} : J_step_341_175 rec x1 x2 x3 y s = rec x1 x2 (x3 + 1) s := by
  unfold J_step_341_175
  rw [t_isBad1 hs, ob_some, ifF (show ¬ (1 : Int32) = 0 by decide), t_363F hs]
theorem t_321F (hs : tI s 0 ≠ 0) {rec : Int32 → Int32 → Int32 → TS → Option (Unit × TS)} : J_step_321_175 rec x1 x2 x3 y s = rec x1 x2 (x3 + 1) s := by
  unfold J_step_321_175
  rw [t_isBad1 hs, ob_some, ifF (show ¬ (1 : Int32) = 0 by decide), t_341F hs]
theorem t_293F (hs : tI s 0 ≠ 0) {rec : Int32 → Int32 → Int32 → TS → Option (Unit × TS)} : J_step_293_175 rec x1 x2 x3 y s = rec x1 x2 (x3 + 1) s := by
  unfold J_step_293_175
  rw [t_isBad1 hs, ob_some, ifF (show ¬ (1 : Int32) = 0 by decide), t_321F hs]
theorem t_269F (hs : tI s 0 ≠ 0) {rec : Int32 → Int32 → Int32 → TS → Option (Unit × TS)} : J_step_269_175 rec x1 x2 x3 z y s = rec x1 x2 (x3 + 1) s := by
  unfold J_step_269_175
  rw [t_isBad1 hs, ob_some, ifF (show ¬ (1 : Int32) = 0 by decide), t_293F hs]
theorem t_237F (hs : tI s 0 ≠ 0) {rec : Int32 → Int32 → Int32 → TS → Option (Unit × TS)} : J_step_237_175 rec x1 x2 x3 y s = rec x1 x2 (x3 + 1) s := by
  unfold J_step_237_175
  rw [t_isBad1 hs, ob_some, ifF (show ¬ (1 : Int32) = 0 by decide), t_269F hs]
theorem t_175F (hs : tI s 0 ≠ 0) {f : Nat} : L_step_175 (f + 1) x1 x2 y s = some ((), s) := by
  rw [L_step_175]
  by_cases z : tI s 198 ≤ y
  · rw [ifT z]
  · rw [ifF z, t_isBad1 hs, ob_some, ifF (show ¬ (1 : Int32) = 0 by decide)]
abbrev c4T (h : Int32) (σ : TS) (j : Nat) : Option Int32 := c4V h (tA σ 240 j) (tA σ 241 j) (tA σ 242 j) (tA σ 243 j) (tA σ 244 j)
/-- sums and the last move, the twin -/
theorem t_tail (st : SaR ns U M σ) (h0 : tI σ 0 = 0) (h t : Int32) :
    ((∀ j, j < ns → c4T h σ j ≠ none) ∧ ∃ σ', L_step_175 FU h t 0 σ = some ((), σ') ∧ Ft [166] σ σ' ∧ ∀ j, tA σ' 166 j = wrS (us σ) (fun i => (c4T h σ i).getD 0) ns (tA σ 166) j) ∨
    ((∃ j, j < ns ∧ c4T h σ j = none) ∧ ∃ σ1, L_step_175 FU h t 0 σ = some ((), σ1) ∧ B41 [0, 1, 166] σ σ1) := by
  have fu : 1000 < FU := by unfold FU; decide
  obtain ⟨⟨h74, h198, n24, U180⟩, hs⟩ := st
  have lp := loopTV (L := fun n i s => L_step_175 n h t i s) (X := ns) (c4T h σ) (fun i σ' => Ft [166] σ σ' ∧ ∀ j, tA σ' 166 j = wrS (us σ) (fun i => (c4T h σ i).getD 0) i (tA σ 166) j) (B41 [0, 1, 166] σ) (fun n σ' ⟨f, _⟩ => by
      have t1 : tI σ' 198 ≤ nI ns := by rw [(f 198 rfl).1, h198, bI_le (by omega) (by omega)]; omega
      show L_step_175 (n + 1) h t (nI ns) σ' = _
      rw [L_step_175, ifT t1]) (fun n i σ' v hi ⟨f, hv⟩ g => by
      have t1 : ¬ tI σ' 198 ≤ nI i := by rw [(f 198 rfl).1, h198, bI_le (by omega) (by omega)]; omega
      have h0' : tI σ' 0 = 0 := (f 0 rfl).1.trans h0
      have ii : inb (nI i) 200 := inb_nI' (by omega) (by decide)
      have xi : ix (nI i) = i := ix_nI (by omega)
      obtain ⟨c1, -, c2, -⟩ := hs i hi
      have iu : inb (nI (us σ i)) 200 := inb_nI' (by omega) (by decide)
      have xu : ix (nI (us σ i)) = us σ i := ix_nI (by omega)
      obtain ⟨e, e1, g1⟩ := b_ex g
      obtain ⟨d, d1, d2⟩ := b_ex e1
      obtain ⟨b, b1, b2⟩ := b_ex d1
      obtain ⟨a, a1, a2⟩ := b_ex b1
      obtain ⟨c, c3, c4⟩ := b_ex b2
      obtain ⟨p, p1, p2⟩ := b_ex g1
      obtain ⟨q, q1, q2⟩ := b_ex p2
      have z0 : (0 : Int32) = 0 := rfl
      refine ⟨tsA σ' 166 (us σ i) v, ?_, f.p_tsA rfl, fun j => ?_⟩
      · show L_step_175 (n + 1) h t (nI i) σ' = _
        rw [L_step_175, ifF t1, t_isBad0 h0', ob_some, ifT z0, ifT ii, ifT ii, xi, (f 242 rfl).2.2.1, t_fit1 a1, ob_some, t_isBad0 h0', ob_some, ifT z0, ifT ii, (f 241 rfl).2.2.1, t_fit1 a2, ob_some]
        unfold J_step_237_175
        rw [t_isBad0 h0', ob_some, ifT z0, ifT ii, ifT ii, xi, (f 243 rfl).2.2.1, t_fit1 c3, ob_some]
        unfold J_step_269_175
        rw [t_isBad0 h0', ob_some, ifT z0, t_fit1 c4, ob_some]
        unfold J_step_293_175
        rw [t_isBad0 h0', ob_some, ifT z0, ifT ii, xi, (f 244 rfl).2.2.1, t_fit1 d2, ob_some]
        unfold J_step_321_175
        rw [t_isBad0 h0', ob_some, ifT z0, t_tim1 p1, ob_some]
        unfold J_step_341_175
        rw [t_isBad0 h0', ob_some, ifT z0, t_ov1 q1, ob_some]
        unfold J_step_363_175
        rw [t_isBad0 h0', ob_some, ifT z0, ifT ii, ifT ii, xi, (f 240 rfl).2.2.1, t_fit1 q2, ob_some, (f 207 rfl).2.2.1, c2, ifT iu, xu, nm_eq, nm_eq, p1n]
      · show tA (tsA σ' 166 (us σ i) v) 166 j = if j = us σ i then (c4T h σ i).getD 0 else wrS (us σ) (fun i => (c4T h σ i).getD 0) i (tA σ 166) j
        rw [tA_tsA, g]
        by_cases z : j = us σ i
        · rw [ifT ⟨rfl, z⟩, ifT z]; rfl
        · rw [ifF (fun y => z y.2), ifF z]; exact hv j) (fun n i σ' hi ⟨f, hv⟩ g => by
      have t1 : ¬ tI σ' 198 ≤ nI i := by rw [(f 198 rfl).1, h198, bI_le (by omega) (by omega)]; omega
      have h0' : tI σ' 0 = 0 := (f 0 rfl).1.trans h0
      have ii : inb (nI i) 200 := inb_nI' (by omega) (by decide)
      have xi : ix (nI i) = i := ix_nI (by omega)
      obtain ⟨c1, -, c2, -⟩ := hs i hi
      have iu : inb (nI (us σ i)) 200 := inb_nI' (by omega) (by decide)
      have xu : ix (nI (us σ i)) = us σ i := ix_nI (by omega)
      have z0 : (0 : Int32) = 0 := rfl
      have n1 : ¬ (1 : Int32) = 0 := by decide
      have b0 : B41 [0, 1, 166] σ (badT σ' 41) := ⟨(f.mono (by decide)).tr (badT_f.mono (by decide)), rfl, rfl⟩
      have bd : tI (badT σ' 41) 0 ≠ 0 := bad41
      have c2' : tA σ' 207 i = nI (us σ i) := by rw [(f 207 rfl).2.2.1]; exact c2
      show ∃ σ1, L_step_175 (n + 2) h t (nI i) σ' = some ((), σ1) ∧ B41 [0, 1, 166] σ σ1
      rw [show n + 2 = n + 1 + 1 from rfl, L_step_175, ifF t1, t_isBad0 h0', ob_some, ifT z0, ifT ii, ifT ii, xi, (f 242 rfl).2.2.1]
      have g : ((((addV (tA σ 242 i) (tA σ 242 i)).bind (addV (tA σ 241 i))).bind fun b => (addV (tA σ 243 i) (tA σ 243 i)).bind (addV b)).bind fun d => addV d (tA σ 244 i)).bind (lstV h (tA σ 240 i)) = none := g
      cases ea : addV (tA σ 242 i) (tA σ 242 i) with
      | none =>
        rw [t_fit0 h0' ea, ob_some, t_isBad1 bd, ob_some, ifF n1, t_237F bd, t_175F bd]
        exact ⟨_, rfl, b0⟩
      | some a =>
        rw [ea] at g
        rw [t_fit1 ea, ob_some, t_isBad0 h0', ob_some, ifT z0, ifT ii, (f 241 rfl).2.2.1]
        have g : (((addV (tA σ 241 i) a).bind fun b => (addV (tA σ 243 i) (tA σ 243 i)).bind (addV b)).bind fun d => addV d (tA σ 244 i)).bind (lstV h (tA σ 240 i)) = none := g
        cases eb : addV (tA σ 241 i) a with
        | none =>
          rw [t_fit0 h0' eb, ob_some, t_237F bd, t_175F bd]
          exact ⟨_, rfl, b0⟩
        | some b =>
          rw [eb] at g
          rw [t_fit1 eb, ob_some]
          unfold J_step_237_175
          rw [t_isBad0 h0', ob_some, ifT z0, ifT ii, ifT ii, xi, (f 243 rfl).2.2.1]
          have g : (((addV (tA σ 243 i) (tA σ 243 i)).bind (addV b)).bind fun d => addV d (tA σ 244 i)).bind (lstV h (tA σ 240 i)) = none := g
          cases ec : addV (tA σ 243 i) (tA σ 243 i) with
          | none =>
            rw [t_fit0 h0' ec, ob_some, t_269F bd, t_175F bd]
            exact ⟨_, rfl, b0⟩
          | some c =>
            rw [ec] at g
            rw [t_fit1 ec, ob_some]
            unfold J_step_269_175
            rw [t_isBad0 h0', ob_some, ifT z0]
            have g : ((addV b c).bind fun d => addV d (tA σ 244 i)).bind (lstV h (tA σ 240 i)) = none := g
            cases ed : addV b c with
            | none =>
              rw [t_fit0 h0' ed, ob_some, t_293F bd, t_175F bd]
              exact ⟨_, rfl, b0⟩
            | some d =>
              rw [ed] at g
              rw [t_fit1 ed, ob_some]
              unfold J_step_293_175
              rw [t_isBad0 h0', ob_some, ifT z0, ifT ii, xi, (f 244 rfl).2.2.1]
              have g : (addV d (tA σ 244 i)).bind (lstV h (tA σ 240 i)) = none := g
              cases ee : addV d (tA σ 244 i) with
              | none =>
                rw [t_fit0 h0' ee, ob_some, t_321F bd, t_175F bd]
                exact ⟨_, rfl, b0⟩
              | some e =>
                rw [ee] at g
                rw [t_fit1 ee, ob_some]
                unfold J_step_321_175
                rw [t_isBad0 h0', ob_some, ifT z0]
                have g : (timV h e).bind (fun p => (ovV p).bind (addV (tA σ 240 i))) = none := g
                cases ep : timV h e with
                | none =>
                  rw [t_tim0 h0' ep, ob_some, t_341F bd, t_175F bd]
                  exact ⟨_, rfl, b0⟩
                | some p =>
                  rw [ep] at g
                  rw [t_tim1 ep, ob_some]
                  unfold J_step_341_175
                  rw [t_isBad0 h0', ob_some, ifT z0]
                  have g : (ovV p).bind (addV (tA σ 240 i)) = none := g
                  cases eq : ovV p with
                  | none =>
                    rw [t_ov0 h0' eq, ob_some, t_363F bd, t_175F bd]
                    exact ⟨_, rfl, b0⟩
                  | some q =>
                    rw [eq] at g
                    rw [t_ov1 eq, ob_some]
                    unfold J_step_363_175
                    have g : addV (tA σ 240 i) q = none := g
                    rw [t_isBad0 h0', ob_some, ifT z0, ifT ii, ifT ii, xi, (f 240 rfl).2.2.1, t_fit0 h0' g, ob_some, c2', ifT iu, xu, nm_eq, nm_eq, t_175F (s := tsA (badT σ' 41) 166 (us σ i) 0) bd]
                    exact ⟨_, rfl, b0.tr ((Ft.rf _ _).p_tsA rfl) ⟨rfl, rfl⟩⟩) ns 0 FU σ (by omega) (by omega) ⟨Ft.rf _ _, fun j => rfl⟩
  rcases lp with ⟨a1, σ', a2, a3, a4⟩ | ⟨⟨j, ⟨-, j2⟩, j3⟩, σ1, a2, a3⟩
  · exact Or.inl ⟨fun j hj => a1 j (Nat.zero_le _) hj, σ', a2, a3, a4⟩
  · exact Or.inr ⟨⟨j, j2, j3⟩, σ1, a2, a3⟩
end TAIL
