/-! Layer B: the index: derivatives of what was seen are new unknowns, both sides -/
set_option maxRecDepth 100000
/-- a fault while the index is lowered -/
def FdB (I A : List Nat) (S : List Nat) (D : FQ) (M : CM) (s : TS) (M' : CM) (s' : TS) (w : Nat) (p : Int32) : Prop := (∃ M1, KF D I [] A [] M M1 ∧ w = mn M1 ∧ M' = wM M1 52 p) ∧ Ft S s s' ∧ tI s' 0 = 52 ∧ tI s' 1 = p
section NEWUS
variable {D : FQ} {M M' : CM} {s s' : TS} {V U U0 S d j kf tf n u k : Nat} {x1 x2 x3 y1 y2 : Int32}
theorem t_94b (h : tI s 0 ≠ 0) (n : Nat) (x1 x2 x3 x4 : Int32) : L_reduce_94 (n + 1) x1 x2 x3 x4 s = some ((), s) := by
  unfold L_reduce_94
  by_cases z : x3 ≤ x4
  · rw [ifT z]
  · rw [ifF z, t_isBad1 h, ob_some, ifF (by decide)]
theorem z_newUs (hU0 : U0 ≤ 180) (hn : mn M ≤ 601024 ∧ ms M + 8 ≤ 7293034 ∧ mn M ≠ 0) : ∀ (d j kf tf : Nat) (M1 : CM) (s : TS) (U : Nat), j + d = U0 → d < kf → d < tf → (mn M1 = mn M ∧ ms M1 = ms M) → tI s 0 = 0 → tI s 204 = x2 → UkR V M1 s U → U0 ≤ U → (∀ u, u < U0 → mA M1 138 u = tA s 199 u) → (∀ u, j ≤ u → u < U0 → ¬ tA s 199 u = 0 → tA s 189 u = -1) →
    (∃ w M' s', KL_X0_lowerIndex_60 kf x1 x2 x3 (nI U0) (nI j) M1 = some (.inr (.inr w), M') ∧ L_reduce_94 tf y1 y2 (nI U0) (nI j) s = some ((), s') ∧ FdB [57] ukA [0, 1, 187, 188, 189, 190, 191, 197] D M1 s M' s' w x2) ∨
    ∃ M' s' U', KL_X0_lowerIndex_60 kf x1 x2 x3 (nI U0) (nI j) M1 = some (.inl (), M') ∧ L_reduce_94 tf y1 y2 (nI U0) (nI j) s = some ((), s') ∧ (KF D [57] [] ukA [] M1 M' ∧ Ft ukS s s' ∧ ∀ f o, o ≠ 1 → mI M' f o = mI M1 f o) ∧ UkR V M' s' U' ∧ U ≤ U' ∧ (∀ u, u < U → (j ≤ u ∧ u < U0 ∧ ¬ tA s 199 u = 0 → ∃ w, U ≤ w ∧ w < U' ∧ tA s' 189 u = nI w) ∧ (¬ (j ≤ u ∧ u < U0 ∧ ¬ tA s 199 u = 0) → tA s' 189 u = tA s 189 u)) ∧ (∀ u, U ≤ u → u < U' → tA s' 189 u = -1 ∧ mA M' 122 u = -1 ∧ tA s' 191 u = -1) ∧ (∀ u, u < U → mA M' 122 u = mA M1 122 u ∧ tA s' 191 u = tA s 191 u) ∧ hcU s' U' = hcU s U ∧ ∀ u u' w w', j ≤ u → u < u' → u' < U0 → ¬ tA s 199 u = 0 → ¬ tA s 199 u' = 0 → tA s' 189 u = nI w → tA s' 189 u' = nI w' → w < U' → w' < U' → w < w' := by
  intro d
  induction d with
  | zero =>
    intro j kf tf M1 s U hj hkf htf hm h0 h204 uk hU mk mz
    obtain ⟨kf, rfl⟩ : ∃ g, kf = g + 1 := ⟨kf - 1, by omega⟩
    obtain ⟨tf, rfl⟩ : ∃ g, tf = g + 1 := ⟨tf - 1, by omega⟩
    obtain rfl : j = U0 := by omega
    have le : nI j ≤ nI j := (bI_le (by omega) (by omega)).mpr (Nat.le_refl _)
    refine Or.inr ⟨M1, s, U, ?_, ?_, ⟨KF.rf, Ft.rf _ s, fun _ _ _ => rfl⟩, uk, Nat.le_refl _, fun u hu => ⟨fun z => by omega, fun _ => rfl⟩, fun u a b => by omega, fun u hu => ⟨rfl, rfl⟩, rfl, fun u u' w w' a b c => by omega⟩
    · unfold KL_X0_lowerIndex_60; rw [ifT le]
    · unfold L_reduce_94; rw [ifT le]
  | succ d ih =>
    intro j kf tf M1 s U hj hkf htf hm h0 h204 uk hU mk mz
    obtain ⟨kf, rfl⟩ : ∃ g, kf = g + 1 := ⟨kf - 1, by omega⟩
    obtain ⟨tf, rfl⟩ : ∃ g, tf = g + 1 := ⟨tf - 1, by omega⟩
    have le : ¬ nI U0 ≤ nI j := fun z => by have := (bI_le (by omega) (by omega)).mp z; omega
    have nx : nI j + 1 = nI (j + 1) := nI_addL j 1
    have ij : inb (nI j) 180 := inb_nI' (by omega) (by decide)
    have ij2 : inb (nI j) 200 := inb_nI' (by omega) (by decide)
    have xj : ix (nI j) = j := ix_nI (by omega)
    obtain ⟨⟨u1, u2, u3⟩, u4⟩ := id uk
    by_cases z : tA s 199 j = 0
    · have eK : KL_X0_lowerIndex_60 (kf + 1) x1 x2 x3 (nI U0) (nI j) M1 = KL_X0_lowerIndex_60 kf x1 x2 x3 (nI U0) (nI (j + 1)) M1 := by
        conv => lhs; unfold KL_X0_lowerIndex_60
        rw [ifF le, ifT ij, xj, mk j (by omega), ifT z, nx, nm_eq]
      have eT : L_reduce_94 (tf + 1) y1 y2 (nI U0) (nI j) s = L_reduce_94 tf y1 y2 (nI U0) (nI (j + 1)) s := by
        conv => lhs; unfold L_reduce_94
        rw [ifF le, t_isBad0 h0, ob_some, ifT rfl, ifT ij2, xj, ifT z, nx, nm_eq]
      rw [eK, eT]
      rcases ih (j + 1) kf tf M1 s U (by omega) (by omega) (by omega) hm h0 h204 uk hU mk (fun u h1 h2 h3 => mz u (by omega) h2 h3) with q | ⟨M', s', U', a1, a2, a3, a4, a5, a6, a7, a8, a9, a10⟩
      · exact Or.inl q
      · refine Or.inr ⟨M', s', U', a1, a2, a3, a4, a5, fun u hu => ⟨fun y => (a6 u hu).1 ⟨?_, y.2⟩, fun y => (a6 u hu).2 (fun t => y ⟨by omega, t.2⟩)⟩, a7, a8, a9, fun u u' w w' b1 b2 b3 b4 => a10 u u' w w' ?_ b2 b3 b4⟩
        · by_cases e : u = j
          · subst e; exact absurd z y.2.2
          · omega
        · by_cases e : u = j
          · subst e; exact absurd z b4
          · omega
    · obtain ⟨⟨b, ⟨b1, hh⟩, b2, b3⟩, ⟨o, o1, o2, o3⟩, -⟩ := u4 j (by omega)
      have od : nI o + 1 = nI (o + 1) := nI_addL o 1
      by_cases full : U = 180 ∨ 3 < o + 1
      · left
        obtain ⟨r, s1, t1, t2, t3, t4⟩ := t_newUb (s := s) (U := U) (o := o + 1) (u := j) ⟨u2, u3⟩ full (by omega) (by omega) h0 (nI b)
        obtain ⟨tf', htf'⟩ : ∃ g, tf = g + 1 := ⟨tf - 1, by omega⟩
        refine ⟨mn M1, wM M1 52 x2, s1, ?_, ?_, ⟨M1, KF.rf, rfl, rfl⟩, t2, t3, t4.trans h204⟩
        · unfold KL_X0_lowerIndex_60
          rw [ifF le, ifT ij, xj, mk j (by omega), ifF z, ifT ij, ifT ij, b2, o2, od, k_newUb (M := M1) (o := o + 1) ⟨u1, u3⟩ full (by omega) (by rw [hm.1, hm.2]; exact hn) (nI b) x2, obS_inr]
        · unfold L_reduce_94
          rw [ifF le, t_isBad0 h0, ob_some, ifT rfl, ifT ij2, xj, ifF z, ifT ij2, ifT ij2, b3, o3, od, t1, ob_some, nx, nm_eq, htf', t_94b (by rw [t3]; decide)]
      · have hU1 : U < 180 := by omega
        have ho : o + 1 ≤ 3 := by omega
        obtain ⟨M2, hM2⟩ : ∃ q, q = mwA (kU5 M1 (nI b) (nI (o + 1)) U) 121 j (nI U) := ⟨_, rfl⟩
        obtain ⟨s2, hs2⟩ : ∃ q, q = tsA (tU5 s (nI b) (nI (o + 1)) (nI j) U) 189 j (nI U) := ⟨_, rfl⟩
        have k2 : KF D [57] [] ukA [] M1 M2 := by rw [hM2]; exact (kU5_k (D := D)).wA rfl ⟨by decide, by decide⟩
        have f2 : Ft ukS s s2 := by rw [hs2]; exact (tU5_f (s := s)).p_tsA rfl
        have hl : tA (tU5 s (nI b) (nI (o + 1)) (nI j) U) 187 U = tA (tU5 s (nI b) (nI (o + 1)) (nI j) U) 187 j ∧ tA (tU5 s (nI b) (nI (o + 1)) (nI j) U) 188 U = tA (tU5 s (nI b) (nI (o + 1)) (nI j) U) 188 j + 1 := by
          obtain ⟨d1, d2, -⟩ := tU5_v (s := s) (x := nI b) (y := nI (o + 1)) (p := nI j) (U := U) U
          obtain ⟨d3, d4, -⟩ := tU5_v (s := s) (x := nI b) (y := nI (o + 1)) (p := nI j) (U := U) j
          rw [d1, d2, d3, d4, ifT rfl, ifT rfl, ifF (by omega), ifF (by omega), b3, o3, od]
          exact ⟨rfl, rfl⟩
        have uk2 : UkR V M2 s2 (U + 1) := by rw [hM2, hs2]; exact (uk.new hh hU1 b1 ho).link ⟨by omega, by omega⟩ hl
        have v189 : ∀ u, tA s2 189 u = if u = j then nI U else if u = U then -1 else tA s 189 u := fun u => by
          rw [hs2, tA_tsA, (tU5_v (s := s) (x := nI b) (y := nI (o + 1)) (p := nI j) (U := U) u).2.2.1]
          by_cases y : u = j
          · rw [ifT ⟨rfl, y⟩, ifT y]
          · rw [ifF (fun q => y q.2), ifF y]
        have v191 : ∀ u, tA s2 191 u = if u = U then -1 else tA s 191 u := fun u => by
          rw [hs2, tA_tsA, ifF (by omega), (tU5_v (s := s) (x := nI b) (y := nI (o + 1)) (p := nI j) (U := U) u).2.2.2]
        have v122 : ∀ u, mA M2 122 u = if u = U then -1 else mA M1 122 u := fun u => by
          rw [hM2, mA_mwA, ifF (by omega), (kU5_v (M := M1) (x := nI b) (y := nI (o + 1)) (U := U) u).2.2.2.1]
        have v199 : ∀ u, tA s2 199 u = tA s 199 u := fun u => (f2 199 rfl).2.2.1 u
        have eK : KL_X0_lowerIndex_60 (kf + 1) x1 x2 x3 (nI U0) (nI j) M1 = KL_X0_lowerIndex_60 kf x1 x2 x3 (nI U0) (nI (j + 1)) M2 := by
          conv => lhs; unfold KL_X0_lowerIndex_60
          rw [ifF le, ifT ij, xj, mk j (by omega), ifF z, ifT ij, ifT ij, b2, o2, od, k_newU (M := M1) (U := U) (o := o + 1) ⟨u1, hU1⟩ ho (nI b) x2, obS_inl, ifT ij, ← hM2, nm_eq, nx, nm_eq]
        have eT : L_reduce_94 (tf + 1) y1 y2 (nI U0) (nI j) s = L_reduce_94 tf y1 y2 (nI U0) (nI (j + 1)) s2 := by
          conv => lhs; unfold L_reduce_94
          rw [ifF le, t_isBad0 h0, ob_some, ifT rfl, ifT ij2, xj, ifF z, ifT ij2, ifT ij2, b3, o3, od, t_newU2 (s := s) (U := U) (o := o + 1) (u := j) ⟨u2, hU1⟩ ho (by omega) (nI b), ob_some, ← hs2, nx, nm_eq]
        rw [eK, eT]
        rcases ih (j + 1) kf tf M2 s2 (U + 1) (by omega) (by omega) (by omega) ⟨k2.n.trans hm.1, k2.2.2.2.2.2.2.2.2.trans hm.2⟩ ((f2 0 rfl).1.trans h0) ((f2 204 rfl).1.trans h204) uk2 (by omega) (fun u hu => by rw [k2.ga rfl, v199]; exact mk u hu) (fun u h1 h2 h3 => by
          rw [v189, ifF (by omega), ifF (by omega)]
          rw [v199] at h3
          exact mz u (by omega) h2 h3) with ⟨w, M', s', a1, a2, ⟨M3, a3, a4, a5⟩, a6, a7, a8⟩ | ⟨M', s', U', a1, a2, ⟨a3, a3', a3''⟩, a4, a5, a6, a7, a8, a9, a10⟩
        · exact Or.inl ⟨w, M', s', a1, a2, ⟨M3, k2.tr a3, a4, a5⟩, (f2.mono (by decide)).tr a6, a7, a8⟩
        · refine Or.inr ⟨M', s', U', a1, a2, ⟨k2.tr a3, f2.tr a3', fun f o ho => by rw [a3'' f o ho, hM2]; show mI (msI M1 57 1 (nI (U + 1))) f o = _; rw [mI_msI, ifF (fun z => ho z.2)]⟩, a4, by omega, fun u hu => ⟨fun y => ?_, fun y => ?_⟩, fun u h1 h2 => ?_, fun u hu => ?_, ?_, fun u u' w w' y1' y2' y3' y4' y5' y6' y7' y8' y9' => ?_⟩
          · obtain ⟨c1, c2⟩ := a6 u (by omega)
            by_cases e : u = j
            · subst e
              exact ⟨U, Nat.le_refl _, by omega, by rw [c2 (by omega), v189, ifT rfl]⟩
            · obtain ⟨w, w1, w2, w3⟩ := c1 ⟨by omega, y.2.1, by rw [v199]; exact y.2.2⟩
              exact ⟨w, by omega, w2, w3⟩
          · have e : u ≠ j := fun e => y ⟨by omega, by omega, by rw [e]; exact z⟩
            rw [(a6 u (by omega)).2 (fun t => y ⟨by omega, t.2.1, by rw [← v199]; exact t.2.2⟩), v189, ifF e, ifF (by omega)]
          · by_cases e : u = U
            · subst e
              obtain ⟨g1, g2⟩ := a8 u (by omega)
              rw [(a6 u (by omega)).2 (by omega), v189, ifF (by omega), ifT rfl, g1, g2, v122, v191, ifT rfl, ifT rfl]
              exact ⟨rfl, rfl, rfl⟩
            · exact a7 u (by omega) h2
          · obtain ⟨g1, g2⟩ := a8 u (by omega)
            rw [g1, g2, v122, v191, ifF (by omega), ifF (by omega)]
            exact ⟨rfl, rfl⟩
          · rw [a9]
            have z1 := mz j (Nat.le_refl _) (by omega) z
            have c1 : cnB (fun u => decide (tA s2 189 u = -1)) U + 1 = cnB (fun u => decide (tA s 189 u = -1)) U := cnB_flip (i := j) (fun u hu hne => by
              show decide (tA s2 189 u = -1) = decide (tA s 189 u = -1)
              rw [v189, ifF hne, ifF (by omega)]) (by omega) (by rw [z1]; rfl) (by
              rw [v189, ifT rfl]
              exact decide_eq_false (nI_m1 (by omega)))
            have c2 : hcU s2 (U + 1) = cnB (fun u => decide (tA s2 189 u = -1)) U + if decide (tA s2 189 U = -1) = true then 1 else 0 := rfl
            have vU : tA s2 189 U = -1 := by rw [v189, ifF (by omega), ifT rfl]
            rw [c2, vU, ifT (by decide), c1]; rfl
          · by_cases e : u = j
            · subst e
              obtain ⟨w2, w21, w22, w23⟩ := (a6 u' (by omega)).1 ⟨by omega, y3', by rw [v199]; exact y5'⟩
              have c1 : tA s' 189 u = nI U := by rw [(a6 u (by omega)).2 (by omega), v189, ifT rfl]
              have U180 := a4.1.2.2
              have := nIq (y6'.symm.trans c1) (by omega) (by omega)
              have := nIq (y7'.symm.trans w23) (by omega) (by omega)
              omega
            · exact a10 u u' w w' (by omega) y2' y3' (by rw [v199]; exact y4') (by rw [v199]; exact y5') y6' y7' y8' y9'
end NEWUS
