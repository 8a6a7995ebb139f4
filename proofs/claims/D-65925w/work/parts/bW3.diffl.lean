/-! Layer B: the index: what was seen is differentiated, both sides -/
set_option maxRecDepth 100000
abbrev ixA : List Nat := [119, 120, 121, 122, 123, 128, 129, 130, 131, 132]
/-- a fault while the index is lowered: the component -/
def FltI (D : FQ) (M M' : CM) (w : Nat) (p : Int32) : Prop := ∃ D1 M1 K1, ArS 133 134 40000 D1 M1 K1 ∧ SvR [57, 65, 605] ixA D M D1 M1 ∧ w = mn M1 ∧ M' = wM M1 52 p
section DIFFL
variable {D D' : FQ} {M M' M1 : CM} {s s' : TS} {V E U S S0 K N g j n w kf tf : Nat} {p x1 x3 x4 y1 y2 y3 : Int32}
theorem FltI.pre (h : FltI D' M1 M' w p) (g : SvR [57, 65, 605] ixA D M D' M1) : FltI D M M' w p := by
  obtain ⟨D1, M2, K1, a, b, c, d⟩ := h
  exact ⟨D1, M2, K1, a, g.tr b, c, d⟩
theorem k_120 (ij : inb (nI j) 180) (xj : ix (nI j) = j) (le : ¬ nI S0 ≤ nI j) (mk : ¬ mA M 139 j = 0) : KL_X0_lowerIndex_120 (n + 1) x1 p x3 x4 (nI S0) (nI j) M = obS (kDe j p M) (fun w M => some (.inr (.inr w), M)) fun r M52 => KL_X0_lowerIndex_120 n x1 p x3 x4 (nI S0) (nI (j + 1)) (mwA M52 129 j r) := by
  have nx : nI j + 1 = nI (j + 1) := nI_addL j 1
  conv => lhs; unfold KL_X0_lowerIndex_120
  rw [ifF le, ifT ij, xj, ifF mk, ifT ij]
  unfold kDe
  cases h1 : K_X0_diff (mX M 126 j) M with
  | none => rfl
  | some q =>
    obtain ⟨q1, M1⟩ := q
    cases q1 with
    | inr w => rfl
    | inl a =>
      rw [obS_inl, obS_inl, ifT ij]
      cases h2 : K_X0_diff (mX M1 127 j) M1 with
      | none => rfl
      | some q =>
        obtain ⟨q1, M2⟩ := q
        cases q1 with
        | inr w => rfl
        | inl b =>
          rw [obS_inl, obS_inl]
          cases h3 : K_X0_newEquation a b (nI j) p M2 with
          | none => rfl
          | some q =>
            obtain ⟨q1, M3⟩ := q
            cases q1 with
            | inr w => rfl
            | inl r =>
              rw [obS_inl, obS_inl, ifT ij, nm_eq, nx, nm_eq]
theorem t_155b (h : tI s 0 ≠ 0) (n : Nat) (x1 x2 x3 x4 x5 : Int32) : L_reduce_155 (n + 1) x1 x2 x3 x4 x5 s = some ((), s) := by
  unfold L_reduce_155
  by_cases z : x4 ≤ x5
  · rw [ifT z]
  · rw [ifF z, t_isBad1 h, ob_some, ifF (by decide)]
theorem z_diffs (hV : V ≤ 96) (hS0 : S0 ≤ 180) : ∀ (d j kf tf : Nat) (D : FQ) (M : CM) (s : TS) (S K N : Nat), j + d = S0 → d < kf → d < tf → S0 ≤ S → IdxR V E U S K N D M s → (mI M 605 133 = p ∧ tI s 204 = p) → (∀ g, g < S0 → mA M 139 g = tA s 200 g) → (∀ g, j ≤ g → g < S0 → ¬ tA s 200 g = 0 → (tA s 180 g = 0 ∧ tA s 194 g = -1) ∧ HdE M s g) →
    (∃ w M' s', KL_X0_lowerIndex_120 kf x1 p x3 x4 (nI S0) (nI j) M = some (.inr (.inr w), M') ∧ L_reduce_155 tf y1 y2 y3 (nI S0) (nI j) s = some ((), s') ∧ FltI D M M' w p ∧ Ft dfS s s' ∧ tI s' 0 = 52 ∧ tI s' 1 = p ∧ Nd5 s s' N) ∨
    ∃ D' M' K' N' S' s', KL_X0_lowerIndex_120 kf x1 p x3 x4 (nI S0) (nI j) M = some (.inl (), M') ∧ L_reduce_155 tf y1 y2 y3 (nI S0) (nI j) s = some ((), s') ∧ IdxR V E U S' K' N' D' M' s' ∧ (S ≤ S' ∧ K ≤ K' ∧ N ≤ N') ∧ SvR [65] [128, 129, 130, 131, 132] D M D' M' ∧ Ft dfS s s' ∧ (NdX s s' N ∧ SnK D M D' M' 134 K) ∧ (mI M' 605 133 = p ∧ ∀ a i, (a = 138 ∨ a = 139) → mA M' a i = mA M a i) ∧
      (∀ g, g < S → ((j ≤ g ∧ g < S0 ∧ ¬ tA s 200 g = 0) → ∃ d, S ≤ d ∧ d < S' ∧ tA s' 194 g = nI d ∧ tA s' 180 d = 0) ∧ (¬ (j ≤ g ∧ g < S0 ∧ ¬ tA s 200 g = 0) → tA s' 194 g = tA s 194 g)) ∧ (∀ g, g < S → tA s' 180 g = tA s 180 g) ∧ udc s' S' = udc s S ∧ (∀ e, S ≤ e → e < S' → tA s' 194 e = -1) ∧ ∀ g g' d d', j ≤ g → g < g' → g' < S0 → ¬ tA s 200 g = 0 → ¬ tA s 200 g' = 0 → tA s' 194 g = nI d → tA s' 194 g' = nI d' → d < S' → d' < S' → d < d' := by
  intro d
  induction d with
  | zero =>
    intro j kf tf D M s S K N hj hkf htf hS h hp mk hm
    obtain ⟨kf, rfl⟩ : ∃ g, kf = g + 1 := ⟨kf - 1, by omega⟩
    obtain ⟨tf, rfl⟩ : ∃ g, tf = g + 1 := ⟨tf - 1, by omega⟩
    obtain rfl : j = S0 := by omega
    have le : nI j ≤ nI j := (bI_le (by omega) (by omega)).mpr (Nat.le_refl _)
    refine Or.inr ⟨D, M, K, N, S, s, ?_, ?_, h, ⟨Nat.le_refl _, Nat.le_refl _, Nat.le_refl _⟩, SvR.rf, Ft.rf _ s, ⟨NdX.rf, SnK.rf⟩, ⟨hp.1, fun _ _ _ => rfl⟩, fun g hg => ⟨fun z => by omega, fun _ => rfl⟩, fun _ _ => rfl, rfl, fun e a b => by omega, fun g g' d d' a b c => by omega⟩
    · unfold KL_X0_lowerIndex_120; rw [ifT le]
    · unfold L_reduce_155; rw [ifT le]
  | succ d ih =>
    intro j kf tf D M s S K N hj hkf htf hS h hp mk hm
    obtain ⟨kf, rfl⟩ : ∃ g, kf = g + 1 := ⟨kf - 1, by omega⟩
    obtain ⟨tf, rfl⟩ : ∃ g, tf = g + 1 := ⟨tf - 1, by omega⟩
    have le : ¬ nI S0 ≤ nI j := fun z => by have := (bI_le (by omega) (by omega)).mp z; omega
    have nx : nI j + 1 = nI (j + 1) := nI_addL j 1
    have ij : inb (nI j) 180 := inb_nI' (by omega) (by decide)
    have ij2 : inb (nI j) 400 := inb_nI' (by omega) (by decide)
    have xj : ix (nI j) = j := ix_nI (by omega)
    have t0 : tI s 0 = 0 := h.2.2.2.2.2.2.1
    by_cases z : tA s 200 j = 0
    · have eK : KL_X0_lowerIndex_120 (kf + 1) x1 p x3 x4 (nI S0) (nI j) M = KL_X0_lowerIndex_120 kf x1 p x3 x4 (nI S0) (nI (j + 1)) M := by
        conv => lhs; unfold KL_X0_lowerIndex_120
        rw [ifF le, ifT ij, xj, mk j (by omega), ifT z, nx, nm_eq]
      have eT : L_reduce_155 (tf + 1) y1 y2 y3 (nI S0) (nI j) s = L_reduce_155 tf y1 y2 y3 (nI S0) (nI (j + 1)) s := by
        conv => lhs; unfold L_reduce_155
        rw [ifF le, t_isBad0 t0, ob_some, ifT rfl, ifT ij2, xj, ifT z, nx, nm_eq]
      rw [eK, eT]
      rcases ih (j + 1) kf tf D M s S K N (by omega) (by omega) (by omega) hS h hp mk (fun g h1 h2 h3 => hm g (by omega) h2 h3) with q | ⟨D', M', K', N', S', s', a1, a2, a3, a4, a5, a6, a7, a8, a9, a10, a11, a12, a13⟩
      · exact Or.inl q
      · refine Or.inr ⟨D', M', K', N', S', s', a1, a2, a3, a4, a5, a6, a7, a8, fun g hg => ⟨fun y => (a9 g hg).1 ⟨?_, y.2⟩, fun y => (a9 g hg).2 (fun t => y ⟨by omega, t.2⟩)⟩, a10, a11, a12, fun g g' d d' b1 b2 b3 b4 => a13 g g' d d' ?_ b2 b3 b4⟩
        · by_cases e : g = j
          · subst e; exact absurd z y.2.2
          · omega
        · by_cases e : g = j
          · subst e; exact absurd z b4
          · omega
    · obtain ⟨⟨g0, g1⟩, hde⟩ := hm j (Nat.le_refl _) (by omega) z
      rw [k_120 ij xj le (by rw [mk j (by omega)]; exact z)]
      rcases z_diffe hV h (show j < S by omega) g0 hde hp.1 with ⟨w, M', s1, b1, b2, b3, b4, b5, b6⟩ | ⟨S1, D2, M3, K2, s1, N2, b1, b2, b3, ⟨b4, b5⟩, ⟨b6, b66, b7⟩, b8, b9, ⟨b10, b11, b12, b13⟩, b14, b15, b16⟩
      · left
        obtain ⟨D1, M1, K1, A1, st, w1, w2⟩ := b3
        obtain ⟨tf', rfl⟩ : ∃ g, tf = g + 1 := ⟨tf - 1, by omega⟩
        refine ⟨w, M', s1, by rw [b1, obS_inr], ?_, ⟨D1, M1, K1, A1, SvR.sa st h.1.1.2.2.1 (by have := A1.2.2.2.1.2.2; omega), w1, by rw [w2, hp.1]⟩, b4, b5, b6.1.trans hp.2, b6.2⟩
        conv => lhs; unfold L_reduce_155
        rw [ifF le, t_isBad0 t0, ob_some, ifT rfl, ifT ij2, xj, ifF z, b2, ob_some, nx, nm_eq, t_155b (by rw [b5]; decide)]
      · obtain ⟨M4, hM4⟩ : ∃ q, q = mwA M3 129 j (nI S) := ⟨_, rfl⟩
        rw [← hM4] at b3 b8 b12 b14 b15
        have r200 : ∀ g, tA s1 200 g = tA s 200 g := fun g => (b9 200 rfl).2.2.1 g
        have eT : L_reduce_155 (tf + 1) y1 y2 y3 (nI S0) (nI j) s = L_reduce_155 tf y1 y2 y3 (nI S0) (nI (j + 1)) s1 := by
          conv => lhs; unfold L_reduce_155
          rw [ifF le, t_isBad0 t0, ob_some, ifT rfl, ifT ij2, xj, ifF z, b2, ob_some, nx, nm_eq]
        rw [b1, obS_inl, ← hM4, eT]
        have rowsK : ∀ g, g < S → tA s 180 g = 0 → HdE M s g → HdE M4 s1 g := fun g hg z0 hd u hu y => by
          rw [b16 _ (by omega)] at y
          obtain ⟨d, d1, d2⟩ := hd u hu y
          exact ⟨d, ⟨((b9 189 rfl).2.2.1 u).trans d1.1, d1.2⟩, (b8.2.2.2.2.2.2.1 121 u rfl (by decide)).trans d2⟩
        rcases ih (j + 1) kf tf D2 M4 s1 (S + 1) K2 N2 (by omega) (by omega) (by omega) (by omega) b3 ⟨b14, (b9 204 rfl).1.trans hp.2⟩ (fun g hg => by rw [b15 139 g (Or.inr rfl), r200]; exact mk g hg) (fun g h1 h2 h3 => by
          rw [r200] at h3
          obtain ⟨c1, c2⟩ := hm g (by omega) h2 h3
          exact ⟨⟨by rw [b5 g (by omega)]; exact c1.1, by rw [b7 g (by omega) (by omega)]; exact c1.2⟩, rowsK g (by omega) c1.1 c2⟩) with ⟨w, M', s', a1, a2, a3, a4, a5, a6⟩ | ⟨D', M', K', N', S', s', a1, a2, a3, ⟨a4, a4', a4''⟩, a5, a6, ⟨a7, a7'⟩, ⟨a8, a8'⟩, a9, a10, a11, a12, a13⟩
        · exact Or.inl ⟨w, M', s', a1, a2, a3.pre (b8.mono (by decide) (by decide)), b9.tr a4, a5, a6.1, Nd5.tr b10.1 a6.2 b11⟩
        · refine Or.inr ⟨D', M', K', N', S', s', a1, a2, a3, ⟨by omega, by omega, by omega⟩, b8.tr a5, b9.tr a6, ⟨b10.tr a7 b11, b12.tr a7' b13⟩, ⟨a8, fun a i ha => (a8' a i ha).trans (b15 a i ha)⟩, fun g hg => ⟨fun y => ?_, fun y => ?_⟩, fun g hg => (a10 g (by omega)).trans (b5 g hg), ?_, fun e y1 y2 => ?_, fun g g' d d' y1 y2 y3 y4 y5 y6 y7 y8 y9 => ?_⟩
          · by_cases e : g = j
            · subst e
              refine ⟨S, Nat.le_refl _, by omega, ?_, ?_⟩
              · rw [(a9 g (by omega)).2 (by omega)]; exact b6
              · rw [a10 S (by omega)]; exact b4
            · obtain ⟨d, d1, d2, d3⟩ := (a9 g (by omega)).1 ⟨by omega, y.2.1, by rw [r200]; exact y.2.2⟩
              exact ⟨d, by omega, d2, d3⟩
          · have e : g ≠ j := fun e => y ⟨by omega, by omega, by rw [e]; exact z⟩
            rw [(a9 g (by omega)).2 (fun t => y ⟨by omega, t.2.1, by rw [← r200]; exact t.2.2⟩), b7 g hg e]
          · rw [a11]
            have c1 : cnB (fun e => decide (tA s1 180 e = 0 ∧ tA s1 194 e = -1)) S + 1 = cnB (fun e => decide (tA s 180 e = 0 ∧ tA s 194 e = -1)) S := cnB_flip (i := j) (fun u hu hne => by
              show decide (tA s1 180 u = 0 ∧ tA s1 194 u = -1) = decide (tA s 180 u = 0 ∧ tA s 194 u = -1)
              rw [b5 u hu, b7 u hu hne]) (by omega) (decide_eq_true ⟨g0, g1⟩) (by
              rw [b6]
              exact decide_eq_false (fun q => nI_m1 (by have := h.2.1.2.2.1; omega) q.2))
            have c2 : udc s1 (S + 1) = cnB (fun e => decide (tA s1 180 e = 0 ∧ tA s1 194 e = -1)) S + if decide (tA s1 180 S = 0 ∧ tA s1 194 S = -1) = true then 1 else 0 := rfl
            rw [c2, ifT (decide_eq_true ⟨b4, b66⟩), c1]; rfl
          · by_cases e0 : e = S
            · subst e0
              rw [(a9 e (by omega)).2 (by omega)]; exact b66
            · exact a12 e (by omega) y2
          · by_cases e : g = j
            · subst e
              obtain ⟨d2, d21, d22, d23, -⟩ := (a9 g' (by omega)).1 ⟨by omega, y3, by rw [r200]; exact y5⟩
              have c1 : tA s' 194 g = nI S := by rw [(a9 g (by omega)).2 (by omega)]; exact b6
              have S180 := a3.2.1.2.2.1
              have := nIq (y6.symm.trans c1) (by omega) (by omega)
              have := nIq (y7.symm.trans d23) (by omega) (by omega)
              omega
            · exact a13 g g' d d' (by omega) y2 y3 (by rw [r200]; exact y4) (by rw [r200]; exact y5) y6 y7 y8 y9
end DIFFL
