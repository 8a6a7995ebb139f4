/-! Layer B: print: relations and conditions of a flat model -/
set_option maxRecDepth 100000
section PRINT
variable {C : PC} {P : Nat → Prop} {mss fss S : List Nat} {D : FQ} {M M0 M' : CM} {s0 σ σ' : TS} {B V I Bm K N E A Wn q qs n a i s : Nat} {z7 : Nat → Nat} {x : Int32}
theorem OuE.st2 (M : CM) (σ : TS) : OuE M (tsI σ 176 0) (msI M 3 1 0) (tsI (tsI σ 9 0) 176 0) := by
  obtain ⟨a, b, c⟩ := OuE.st M (tsI σ 176 0)
  refine ⟨⟨0, by decide, by rw [mI_msI, ifT ⟨rfl, rfl⟩]; rfl, rfl, fun i hi => absurd hi (Nat.not_lt_zero _)⟩, b, ?_⟩
  intro k hk
  obtain ⟨c1, c2, c3, c4⟩ := c k hk
  refine ⟨?_, rfl, fun i => rfl, fun i => rfl⟩
  rw [← c1]
  by_cases z : k = 176
  · subst z; rfl
  · by_cases z2 : k = 9
    · subst z2; rfl
    · show (if k = 176 then _ else if k = 9 then _ else _) = (if k = 9 then _ else if k = 176 then _ else _)
      rw [ifF z, ifF z2, ifF z2, ifF z]
/-- a tree of the flat model -/
theorem z_ptree (W : FW C B P mss fss D M0 s0) (X : FlY z7 C P D mss M0 s0 V I Bm) (hK : K ≤ (pl D 106).length) (hN : N ≤ 70000) (na : NdA s0 N) (h176 : tI s0 176 = 0) (nd : NdR 0 D M0 s0 106 V 100 s K N a n) (o : OuQ M0 s0 0 M σ) : PrJ M σ (K_X0_put_2 a M) (F_printNode (nI n) σ) := z_put 500 100 300 a n 0 M σ (NdR.pn W X hK hN na h176 100 s a n nd) (by decide) (by decide) (by decide) o
/-- where printing a flat model begins -/
theorem FP.pr (fp : FP C P mss D M σ z7 V I Bm K N E A Wn q qs) (W : FW C B P mss fss D M σ) (h171 : tI σ 171 = nI 0) : ∃ s0, s0 = tsI σ 176 0 ∧ Ft [176] σ s0 ∧ FW C B P mss fss D M s0 ∧ FlY z7 C P D mss M s0 V I Bm ∧ K ≤ (pl D 106).length ∧ N ≤ 70000 ∧ NdA s0 N ∧ tI s0 176 = 0 ∧ NdK D M σ D M s0 106 K N ∧ OuQ M s0 0 (msI M 3 1 0) (tsI (tsI σ 9 0) 176 0) := by
  have f0 : Ft [176] σ (tsI σ 176 0) := (Ft.rf _ σ).p_tsI rfl
  obtain ⟨⟨m1, m2, m3⟩, ⟨m4, m5⟩, m6⟩ := fp.2.1
  exact ⟨tsI σ 176 0, rfl, f0, (W.wzT f0 (by decide)).1, fp.1.tw W f0 (by decide) (by decide), m2, by omega, m6.ft f0 (by decide), rfl, ⟨fun k hk => ⟨rfl, fun _ _ => rfl, fun _ _ => rfl⟩, fun g _ n _ => rfl, fun v => rfl⟩, OuE.st2 M σ, h171⟩
/-- the relation i -/
theorem z_print2 (fp : FP C P mss D M σ z7 V I Bm K N E A Wn q qs) (W : FW C B P mss fss D M σ) (h171 : tI σ 171 = nI 0) (hi : i < q) : ∃ r M' σ', KJ_X0_print_123 2 (nI i) M = some (r, M') ∧ J_print_114 2 (nI i) σ = some (r, σ') ∧ OuR M' σ' ∧ OuK M M' ∧ Ft [6, 9, 170, 171, 176] σ σ' ∧ tI σ' 171 = nI 0 := by
  obtain ⟨s0, hs0, f0, W0, X0, hK, hN, na, h176, nk, o⟩ := fp.pr W h171
  obtain ⟨⟨-, -, q24⟩, q1, -, -⟩ := fp.2.2.2.2.2.2.1
  have rl := fp.2.2.2.2.2.2.1.2.2.2
  obtain ⟨k, k1, k2, -, k3, -⟩ := rl i hi
  obtain ⟨k', k1', k2', k3'⟩ := q1 i hi
  have ek : k' = k := by
    have hKN := fp.2.1.2.1.1
    have := (bI_eq (by omega) (by omega)).mp (k3'.symm.trans k2)
    omega
  subst ek
  have nd : NdR 0 D M s0 106 V 100 1 K N ((pl D 106).getD k' 0) (k' + 1) := NdR.mv nk (Nat.le_refl _) (Nat.le_refl _) (Nat.le_refl _) 100 100 _ _ _ (Nat.le_refl _) k3.2
  obtain ⟨M1, σ1, e1, e2, r, kk, t⟩ := z_ptree W0 X0 hK hN na h176 nd o
  have i24 : inb (nI i) 24 := inb_nI' (by omega) (by decide)
  have xi_ : ix (nI i) = i := ix_nI (by omega)
  have ex : mX (msI M 3 1 0) 114 i = (pl D 106).getD k' 0 := k2'
  have et : tA (tsI (tsI σ 9 0) 176 0) 153 i = nI (k' + 1) := k3'
  obtain ⟨n, n1, n2, n3, n4⟩ := id r
  unfold KJ_X0_print_123 J_print_114 J_print_130
  simp +decide only [↓reduceIte]
  simp only [nm_eq]
  rw [ifT i24, ifT i24, xi_, ex, et, e1, ob_some, e2, ob_some]
  refine ⟨nI n, M1, tsI σ1 176 0, by rw [n2], by show some (tI σ1 9, tsI σ1 176 0) = _; rw [n3], ⟨n, n1, n2, n3, n4⟩, o.1.2.1.tr kk, ?_, ?_⟩
  · exact (((f0.mono (by decide)).tr (o.1.2.2.mono (by decide))).tr (t.1.mono (by decide))).tr ((Ft.rf [6, 9, 170, 171, 176] σ1).p_tsI rfl)
  · show tI σ1 171 = _
    rw [t.2.1.1]; exact o.2
/-- the condition i -/
theorem z_print3 (fp : FP C P mss D M σ z7 V I Bm K N E A Wn q qs) (W : FW C B P mss fss D M σ) (h171 : tI σ 171 = nI 0) (hi : i < Wn) : ∃ r M' σ', KJ_X0_print_123 3 (nI i) M = some (r, M') ∧ J_print_114 3 (nI i) σ = some (r, σ') ∧ OuR M' σ' ∧ OuK M M' ∧ Ft [6, 9, 170, 171, 176] σ σ' ∧ tI σ' 171 = nI 0 := by
  obtain ⟨s0, hs0, f0, W0, X0, hK, hN, na, h176, nk, o⟩ := fp.pr W h171
  obtain ⟨⟨-, -, W12, Wl⟩, wh, -⟩ := fp.2.2.2.2.2.1
  obtain ⟨⟨m, k2, k3⟩, -⟩ := wh i hi
  have nd := NdR.mv nk (Nat.le_refl _) (Nat.le_refl _) (Nat.le_refl V) 100 100 _ _ _ (Nat.le_refl _) k3
  obtain ⟨M1, σ1, e1, e2, r, kk, t⟩ := z_ptree W0 X0 hK hN na h176 nd o
  have i12 : inb (nI i) 12 := inb_nI' (by omega) (by decide)
  have xi_ : ix (nI i) = i := ix_nI (by omega)
  have et : tA (tsI (tsI σ 9 0) 176 0) 145 i = nI m := k2
  have k20 : mk M ((pl D 113).getD i 0) = 20 := (W.2.1.2.1 113 (by decide) i (by omega)).1
  have ls : K_J2_get 113 (nI i) (msI M 3 1 0) = some ((pl D 113).getD i 0, msI M 3 1 0) := by
    have L : Ls (msI M 3 1 0) 113 (pl D 113) := ((W.2.1.1 113 (by decide)).1).fz o.1.2.1.2.2.2.2.2.2.2 (by have := W.n167; omega) (fun o z => by
      rcases z with z | z
      · rw [z, W.k1]; exact ⟨by decide, by decide⟩
      · have : mk M 3 = 51 := (W.2.2.2.1.1 (3, 51, 500) (by decide)).1
        rw [z, this]; exact ⟨by decide, by decide⟩)
    exact ls_get L (by omega)
  have k20' : mk (msI M 3 1 0) ((pl D 113).getD i 0) = 20 := k20
  have er : mR (msI M 3 1 0) 3800 ((pl D 113).getD i 0) = mR M 3800 ((pl D 113).getD i 0) := rfl
  obtain ⟨n, n1, n2, n3, n4⟩ := id r
  unfold KJ_X0_print_123 J_print_114 J_print_130
  simp +decide only [↓reduceIte]
  simp only [nm_eq]
  rw [ls, ob_some, ifT (Or.inr k20'), ifT k20', er, ifT i12, xi_, et, e1, ob_some, e2, ob_some]
  refine ⟨nI n, M1, tsI σ1 176 0, by rw [n2], by show some (tI σ1 9, tsI σ1 176 0) = _; rw [n3], ⟨n, n1, n2, n3, n4⟩, o.1.2.1.tr kk, ?_, ?_⟩
  · exact (((f0.mono (by decide)).tr (o.1.2.2.mono (by decide))).tr (t.1.mono (by decide))).tr ((Ft.rf [6, 9, 170, 171, 176] σ1).p_tsI rfl)
  · show tI σ1 171 = _
    rw [t.2.1.1]; exact o.2
end PRINT
