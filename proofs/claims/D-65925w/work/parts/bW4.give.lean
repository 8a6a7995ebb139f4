/-! Layer B: the index: derivatives are given to derivatives, both sides -/
set_option maxRecDepth 100000
section GIVE
variable {D : FQ} {M M' : CM} {s s' : TS} {U U0 S d j kf tf n u k : Nat} {x1 x2 x3 y1 y2 : Int32}
theorem z_give (hU0 : U0 ≤ U ∧ U ≤ 180) (hS : S ≤ 180) : ∀ (d j kf tf : Nat) (M : CM) (s : TS), j + d = U0 → d < kf → d < tf → (∀ u, u < U0 → mA M 138 u = tA s 199 u) → (∀ u, u < U → mA M 121 u = tA s 189 u) → (∀ e, e < S → mA M 129 e = tA s 194 e) → (∀ u, u < U → mA M 122 u = tA s 191 u) → Rg U S (fun u => mA M 122 u) → (∀ u, u < U0 → ¬ tA s 199 u = 0 → (∃ w, U0 ≤ w ∧ w < U ∧ tA s 189 u = nI w) ∧ ∃ e d, e < S ∧ tA s 191 u = nI e ∧ d < S ∧ tA s 194 e = nI d ∧ tA s 180 d = 0) → (∀ u e, u < U → e < S → tA s 191 u = nI e → tA s 180 e = 0) → (∀ u u' w, u < U0 → u' < U0 → ¬ tA s 199 u = 0 → ¬ tA s 199 u' = 0 → w < U → tA s 189 u = nI w → tA s 189 u' = nI w → u = u') →
    ∃ M' s', KL_X0_lowerIndex_186 kf x1 x2 x3 (nI U0) (nI j) M = some ((), M') ∧ L_reduce_202 tf y1 y2 (nI U0) (nI j) s = some ((), s') ∧ KF D [] [] [122] [] M M' ∧ Ft [191] s s' ∧ (∀ u, u < U → mA M' 122 u = tA s' 191 u) ∧ Rg U S (fun u => mA M' 122 u) ∧ (∀ u e, u < U → e < S → tA s' 191 u = nI e → tA s' 180 e = 0) ∧ (∀ u w x, j ≤ u → u < U0 → ¬ tA s 199 u = 0 → tA s 189 u = nI w → w < U → tA s 191 u = nI x → x < S → tA s' 191 w = tA s 194 x) ∧ ∀ w, w < U → (∀ u, j ≤ u → u < U0 → ¬ tA s 199 u = 0 → tA s 189 u ≠ nI w) → tA s' 191 w = tA s 191 w := by
  intro d
  induction d with
  | zero =>
    intro j kf tf M s hj hkf htf hm h1 h2 h3 h4 h5 h6 h7
    obtain ⟨kf, rfl⟩ : ∃ g, kf = g + 1 := ⟨kf - 1, by omega⟩
    obtain ⟨tf, rfl⟩ : ∃ g, tf = g + 1 := ⟨tf - 1, by omega⟩
    obtain rfl : j = U0 := by omega
    have le : nI j ≤ nI j := (bI_le (by omega) (by omega)).mpr (Nat.le_refl _)
    refine ⟨M, s, ?_, ?_, KF.rf, Ft.rf _ s, h3, h4, h6, fun u w x a b => by omega, fun w hw q => rfl⟩
    · unfold KL_X0_lowerIndex_186; rw [ifT le]
    · unfold L_reduce_202; rw [ifT le]
  | succ d ih =>
    intro j kf tf M s hj hkf htf hm h1 h2 h3 h4 h5 h6 h7
    obtain ⟨kf, rfl⟩ : ∃ g, kf = g + 1 := ⟨kf - 1, by omega⟩
    obtain ⟨tf, rfl⟩ : ∃ g, tf = g + 1 := ⟨tf - 1, by omega⟩
    have le : ¬ nI U0 ≤ nI j := fun z => by have := (bI_le (by omega) (by omega)).mp z; omega
    have nx : nI j + 1 = nI (j + 1) := nI_addL j 1
    have ij : inb (nI j) 180 := inb_nI' (by omega) (by decide)
    have ij2 : inb (nI j) 200 := inb_nI' (by omega) (by decide)
    have xj : ix (nI j) = j := ix_nI (by omega)
    by_cases z : tA s 199 j = 0
    · obtain ⟨M', s', a1, a2, a3, a4, a5, a6, a7, g1, g2⟩ := ih (j + 1) kf tf M s (by omega) (by omega) (by omega) hm h1 h2 h3 h4 h5 h6 h7
      have nj : ∀ u, ¬ tA s 199 u = 0 → u ≠ j := fun u y e => y (by rw [e]; exact z)
      refine ⟨M', s', ?_, ?_, a3, a4, a5, a6, a7, fun u w x y1 y2 y3 => g1 u w x (by have := nj u y3; omega) y2 y3, fun w hw q => g2 w hw (fun u y1 => q u (by omega))⟩
      · unfold KL_X0_lowerIndex_186
        rw [ifF le, ifT ij, xj, hm j (by omega), ifT z, nx, nm_eq]; exact a1
      · unfold L_reduce_202
        rw [ifF le, ifT ij2, xj, ifT z, nx, nm_eq]; exact a2
    · obtain ⟨⟨w, w1, w2, w3⟩, e, d', e1, e2, e3, e4, e5⟩ := h5 j (by omega) z
      have w2' := w2
      have xw : ix (nI w) = w := ix_nI (by omega)
      have xe : ix (nI e) = e := ix_nI (by omega)
      obtain ⟨M1, hM1⟩ : ∃ q, q = mwA M 122 w (nI d') := ⟨_, rfl⟩
      obtain ⟨s1, hs1⟩ : ∃ q, q = tsA s 191 w (nI d') := ⟨_, rfl⟩
      have k1 : KF D [] [] [122] [] M M1 := by rw [hM1]; exact KF.rf.wA rfl ⟨by decide, by decide⟩
      have f1 : Ft [191] s s1 := by rw [hs1]; exact (Ft.rf _ s).p_tsA rfl
      have v1 : ∀ u, mA M1 122 u = if u = w then nI d' else mA M 122 u := fun u => by
        rw [hM1, mA_mwA]
        by_cases y : u = w
        · rw [ifT ⟨rfl, y⟩, ifT y]
        · rw [ifF (fun q => y q.2), ifF y]
      have v2 : ∀ u, tA s1 191 u = if u = w then nI d' else tA s 191 u := fun u => by
        rw [hs1, tA_tsA]
        by_cases y : u = w
        · rw [ifT ⟨rfl, y⟩, ifT y]
        · rw [ifF (fun q => y q.2), ifF y]
      obtain ⟨M', s', a1, a2, a3, a4, a5, a6, a7, g1, g2⟩ := ih (j + 1) kf tf M1 s1 (by omega) (by omega) (by omega) (fun u hu => by rw [k1.ga rfl, (f1 199 rfl).2.2.1]; exact hm u hu) (fun u hu => by rw [k1.ga rfl, (f1 189 rfl).2.2.1]; exact h1 u hu) (fun e he => by rw [k1.ga rfl, (f1 194 rfl).2.2.1]; exact h2 e he) (fun u hu => by
        rw [v1, v2]
        by_cases y : u = w
        · rw [ifT y, ifT y]
        · rw [ifF y, ifF y]; exact h3 u hu) (fun u hu => by
        show mA M1 122 u = -1 ∨ ∃ e, e < S ∧ mA M1 122 u = nI e
        rw [v1]
        by_cases y : u = w
        · rw [ifT y]; exact Or.inr ⟨d', e3, rfl⟩
        · rw [ifF y]; exact h4 u hu) (fun u hu hz => by
        rw [(f1 199 rfl).2.2.1] at hz
        obtain ⟨c1, c2⟩ := h5 u hu hz
        rw [(f1 189 rfl).2.2.1, v2, ifF (by omega)]
        refine ⟨c1, ?_⟩
        obtain ⟨e, d, q1, q2, q3, q4, q5⟩ := c2
        exact ⟨e, d, q1, q2, q3, ((f1 194 rfl).2.2.1 e).trans q4, ((f1 180 rfl).2.2.1 d).trans q5⟩) (fun u e hu he hq => by
        rw [(f1 180 rfl).2.2.1]
        rw [v2] at hq
        by_cases y : u = w
        · rw [ifT y] at hq
          rw [show e = d' from nIq hq.symm (by omega) (by omega)]; exact e5
        · rw [ifF y] at hq; exact h6 u e hu he hq) (fun u u' w y1 y2 y3 y4 y5 y6 y7 => h7 u u' w y1 y2 (by rw [← (f1 199 rfl).2.2.1]; exact y3) (by rw [← (f1 199 rfl).2.2.1]; exact y4) y5 (((f1 189 rfl).2.2.1 u).symm.trans y6) (((f1 189 rfl).2.2.1 u').symm.trans y7))
      have t199 : ∀ u, tA s1 199 u = tA s 199 u := fun u => (f1 199 rfl).2.2.1 u
      have t189 : ∀ u, tA s1 189 u = tA s 189 u := fun u => (f1 189 rfl).2.2.1 u
      refine ⟨M', s', ?_, ?_, k1.tr a3, f1.tr a4, a5, a6, a7, fun u w2 x y1 y2 y3 y4 y5 y6 y7 => ?_, fun w2 hw2 q => ?_⟩
      · unfold KL_X0_lowerIndex_186
        rw [ifF le, ifT ij, xj, hm j (by omega), ifF z, ifT ij, ifT ij, h3 j (by omega), e2, ifT (inb_nI' (by omega) (by decide)), h1 j (by omega), w3, ifT (inb_nI' (by omega) (by decide)), xw, xe, h2 e e1, e4, ← hM1, nm_eq, nx, nm_eq]
        exact a1
      · unfold L_reduce_202
        rw [ifF le, ifT ij2, xj, ifF z, ifT ij2, ifT ij2, e2, ifT (inb_nI' (by omega) (by decide)), w3, ifT (inb_nI' (by omega) (by decide)), xw, xe, e4, ← hs1, nm_eq, nx, nm_eq]
        exact a2
      · by_cases y : u = j
        · subst y
          have q1 : w2 = w := nIq (y4.symm.trans w3) (by omega) (by omega)
          have q2 : x = e := nIq (y6.symm.trans e2) (by omega) (by omega)
          rw [q1, q2, g2 w w2' (fun u' b1 b2 b3 b4 => ?_), v2, ifT rfl, e4]
          rw [t189] at b4
          rw [t199] at b3
          have := h7 u u' w (by omega) b2 z b3 w2' w3 b4
          omega
        · have o : u ≠ w := by omega
          rw [g1 u w2 x (by omega) y2 (by rw [t199]; exact y3) (by rw [t189]; exact y4) y5 (by rw [v2, ifF o]; exact y6) y7, (f1 194 rfl).2.2.1]
      · rw [g2 w2 hw2 (fun u b1 b2 b3 => by rw [t189]; exact q u (by omega) b2 (by rw [← t199]; exact b3)), v2, ifF]
        intro e1'
        exact q j (Nat.le_refl _) (by omega) z (by rw [e1']; exact w3)
end GIVE
