/-! Layer B: print: equations and actions of a flat model -/
set_option maxRecDepth 100000
section PRINT2
variable {C : PC} {P : Nat → Prop} {mss fss S : List Nat} {D : FQ} {M M0 M' : CM} {s0 σ σ' : TS} {B V I Bm K N E A Wn q qs n a i s l : Nat} {z7 : Nat → Nat} {x : Int32}
/-- a row's object while it is printed -/
theorem pr_get (W : FW C B P mss fss D M σ) (hl : l ∈ flA) (hi : i < (pl D l).length) (k : OuK M M') : K_J2_get l (nI i) M' = some ((pl D l).getD i 0, M') := by
  have r := flA_rng l hl
  have L : Ls M' l (pl D l) := ((W.2.1.1 l hl).1).fz k.2.2.2.2.2.2.2 (by have := W.n167; omega) (fun o z => by
    rcases z with z | z
    · rw [z, W.k1]; exact ⟨by decide, by decide⟩
    · have : mk M 3 = 51 := (W.2.2.2.1.1 (3, 51, 500) (by decide)).1
      rw [z, this]; exact ⟨by decide, by decide⟩)
  exact ls_get L hi
/-- the equation i -/
theorem z_print0 (fp : FP C P mss D M σ z7 V I Bm K N E A Wn q qs) (W : FW C B P mss fss D M σ) (h171 : tI σ 171 = nI 0) (hi : i < E) : ∃ r M' σ', KJ_X0_print_123 0 (nI i) M = some (r, M') ∧ J_print_114 0 (nI i) σ = some (r, σ') ∧ OuR M' σ' ∧ OuK M M' ∧ Ft [6, 9, 170, 171, 176] σ σ' ∧ tI σ' 171 = nI 0 := by
  obtain ⟨s0, hs0, f0, W0, X0, hK, hN, na, h176, nk, o⟩ := fp.pr W h171
  obtain ⟨⟨-, -, e120, El⟩, eqs⟩ := fp.2.2.2.1
  obtain ⟨⟨m, x1, x2⟩, m', y1, y2⟩ := eqs i hi
  have nd1 := NdR.mv nk (Nat.le_refl _) (Nat.le_refl _) (Nat.le_refl V) 100 100 _ _ _ (Nat.le_refl _) x2
  have nd2 := NdR.mv nk (Nat.le_refl _) (Nat.le_refl _) (Nat.le_refl V) 100 100 _ _ _ (Nat.le_refl _) y2
  have i120 : inb (nI i) 120 := inb_nI' (by omega) (by decide)
  have xi_ : ix (nI i) = i := ix_nI (by omega)
  obtain ⟨M1, σ1, a1, a2, r1, k1, t1⟩ := z_ptree W0 X0 hK hN na h176 nd1 o
  have o1 := o.go r1 k1 t1
  obtain ⟨M2, σ2, b1, b2, r2, k2, t2⟩ := z_qtext (j := 30) (j' := 23) o1 ⟨by decide, by decide, rfl⟩
  have o2 := o1.go r2 k2 t2
  obtain ⟨M3, σ3, c1, c2, r3, k3, t3⟩ := z_ptree W0 X0 hK hN na h176 nd2 o2
  have o3 := o2.go r3 k3 t3
  have k19 : mk (msI M 3 1 0) ((pl D 111).getD i 0) = 19 := (W.2.1.2.1 111 (by decide) i (by omega)).1
  have ls := pr_get W (l := 111) (i := i) (by decide) (by omega) o.1.2.1
  have er : mR (msI M 3 1 0) 3600 ((pl D 111).getD i 0) = mR M 3600 ((pl D 111).getD i 0) ∧ mR (msI M 3 1 0) 3601 ((pl D 111).getD i 0) = mR M 3601 ((pl D 111).getD i 0) := ⟨rfl, rfl⟩
  have et : tA (tsI (tsI σ 9 0) 176 0) 174 i = nI m := x1
  have et2 : tA σ2 175 i = nI m' := by rw [o2.1.ta (k := 175) rfl, hs0]; exact y1
  obtain ⟨n, n1, n2, n3, n4⟩ := id r3
  have b1' : K_X0_put_3 2199023255582 M1 = some ((), M2) := b1
  unfold KJ_X0_print_123 J_print_114 J_print_130 J_print_158 K_X0_putBoth
  simp +decide only [↓reduceIte]
  simp only [nm_eq]
  rw [ls, ob_some, ifT (Or.inr k19), ifT k19, ls, ob_some, ifT (Or.inr k19), ifT k19, er.1, er.2, ifT i120, xi_, et, a1, ob_some, b1', ob_some, c1, ob_some, ob_some, a2, ob_some, b2, ob_some, ifT i120, et2, c2, ob_some]
  refine ⟨nI n, M3, tsI σ3 176 0, by rw [n2], by show some (tI σ3 9, tsI σ3 176 0) = _; rw [n3], ⟨n, n1, n2, n3, n4⟩, o3.1.2.1, ?_, ?_⟩
  · exact ((f0.mono (by decide)).tr (o3.1.2.2.mono (by decide))).tr ((Ft.rf [6, 9, 170, 171, 176] σ3).p_tsI rfl)
  · show tI σ3 171 = _
    exact o3.2
/-- the action i -/
theorem z_print4 (fp : FP C P mss D M σ z7 V I Bm K N E A Wn q qs) (W : FW C B P mss fss D M σ) (h171 : tI σ 171 = nI 0) (hi : i < A) : ∃ r M' σ', KJ_X0_print_123 4 (nI i) M = some (r, M') ∧ J_print_114 4 (nI i) σ = some (r, σ') ∧ OuR M' σ' ∧ OuK M M' ∧ Ft [6, 9, 170, 171, 176] σ σ' ∧ tI σ' 171 = nI 0 := by
  obtain ⟨s0, hs0, f0, W0, X0, hK, hN, na, h176, nk, o⟩ := fp.pr W h171
  obtain ⟨⟨-, A200, Al⟩, acs⟩ := fp.2.2.2.2.1
  obtain ⟨⟨v, v1, v2, v3, -⟩, kd, m, x1, x2⟩ := acs i hi
  have nd := NdR.mv nk (Nat.le_refl _) (Nat.le_refl _) (Nat.le_refl V) 100 100 _ _ _ (Nat.le_refl _) x2
  have i200 : inb (nI i) 200 := inb_nI' (by omega) (by decide)
  have xi_ : ix (nI i) = i := ix_nI (by omega)
  have k21 : ∀ M1, OuK M M1 → mk M1 ((pl D 112).getD i 0) = 21 := fun M1 k => by rw [(k.2.2.2.2.2.1 _).1]; exact (W.2.1.2.1 112 (by decide) i (by omega)).1
  have m1 : ∀ M1, OuK M M1 → (1 : Nat) = 1 ∧ mk M1 1 = 1 := fun M1 k => ⟨rfl, by rw [(k.2.2.2.2.2.1 _).1]; exact W.k1⟩
  have i40 : ∀ M1, OuK M M1 → mI M1 4000 ((pl D 112).getD i 0) = mI M 4000 ((pl D 112).getD i 0) ∧ mI M1 4001 ((pl D 112).getD i 0) = nI v ∧ mR M1 4002 ((pl D 112).getD i 0) = mR M 4002 ((pl D 112).getD i 0) := fun M1 k => ⟨k.1 _ _ (by omega), (k.1 _ _ (by omega)).trans v2, k.2.1 _ _⟩
  have ls := pr_get W (l := 112) (i := i) (by decide) (by omega) o.1.2.1
  have t4 : ∀ {Mx : CM} {sx : TS}, OuQ M s0 0 Mx sx → tA sx 149 i = tA σ 149 i ∧ tA sx 150 i = nI v ∧ tA sx 151 i = nI m := fun {Mx sx} o => ⟨by rw [o.1.ta (k := 149) rfl, hs0]; rfl, by rw [o.1.ta (k := 150) rfl, hs0]; exact v3, by rw [o.1.ta (k := 151) rfl, hs0]; exact x1⟩
  have emp : ∀ M1 : CM, K_X0_put_3 2199023255580 M1 = some ((), M1) := fun M1 => k_text (j := 28) (by decide) M1
  have fin : ∀ {Mx : CM} {sx : TS}, OuQ M s0 0 Mx sx → ∃ r, some (mI Mx 3 1, Mx) = some (r, Mx) ∧ some (tI (tsI sx 176 0) 9, tsI sx 176 0) = some (r, tsI sx 176 0) ∧ OuR Mx (tsI sx 176 0) ∧ OuK M Mx ∧ Ft [6, 9, 170, 171, 176] σ (tsI sx 176 0) ∧ tI (tsI sx 176 0) 171 = nI 0 := fun {Mx sx} o => by
    obtain ⟨n, n1, n2, n3, n4⟩ := id o.1.1
    refine ⟨nI n, by rw [n2], by show some (tI sx 9, tsI sx 176 0) = _; rw [n3], ⟨n, n1, n2, n3, n4⟩, o.1.2.1, ?_, o.2⟩
    exact ((f0.mono (by decide)).tr (o.1.2.2.mono (by decide))).tr ((Ft.rf [6, 9, 170, 171, 176] sx).p_tsI rfl)
  unfold KJ_X0_print_123 J_print_114 J_print_130
  simp +decide only [↓reduceIte]
  simp only [nm_eq]
  rw [ls, ob_some, ifT (Or.inr (k21 _ o.1.2.1)), ifT (k21 _ o.1.2.1), (i40 _ o.1.2.1).1, ifT i200, xi_, (t4 o).1]
  rcases kd with ⟨e, e'⟩ | ⟨e, e'⟩
  · rw [e, e', ifT (rfl : (0 : Int32) = 0), ifF (by decide : ¬ (6 : Int32) = 7)]
    unfold KJ_X0_print_279 J_print_248
    rw [ifT (m1 _ o.1.2.1), emp, ob_some, ifT (k21 _ o.1.2.1), (i40 _ o.1.2.1).2.1, ifT i200, xi_, (t4 o).2.1]
    obtain ⟨M1, σ1, a1, a2, r1, k1, t1⟩ := z_pname W0 X0 v1 o.1
    have o1 := o.go r1 k1 t1
    rw [a1, ob_some, a2, ob_some, ifT (k21 _ o1.1.2.1), (i40 _ o1.1.2.1).1, e, ifT (rfl : (0 : Int32) = 0), ifT i200, (t4 o1).1, e', ifF (by decide : ¬ (6 : Int32) = 7)]
    unfold KJ_X0_print_309 J_print_279
    obtain ⟨M2, σ2, b1, b2, r2, k2, t2⟩ := z_qtext (j := 30) (j' := 23) o1 ⟨by decide, by decide, rfl⟩
    have o2 := o1.go r2 k2 t2
    have b1' : K_X0_put_3 2199023255582 M1 = some ((), M2) := b1
    obtain ⟨M3, σ3, c1, c2, r3, k3, t3⟩ := z_ptree W0 X0 hK hN na h176 nd o2
    have o3 := o2.go r3 k3 t3
    rw [ifT (m1 _ o1.1.2.1), b1', ob_some, ifT (k21 _ o2.1.2.1), (i40 _ o2.1.2.1).2.2, c1, ob_some, ifT (k21 _ o3.1.2.1), (i40 _ o3.1.2.1).1, e, ifT (rfl : (0 : Int32) = 0), emp, ob_some, b2, ob_some, ifT i200, xi_, (t4 o2).2.2, c2, ob_some, ifT i200, (t4 o3).1, e', ifF (by decide : ¬ (6 : Int32) = 7), nm_eq]
    obtain ⟨r, f1, f2, f3⟩ := fin o3
    exact ⟨r, M3, _, f1, f2, f3⟩
  · rw [e, e', ifF (by decide : ¬ (1 : Int32) = 0), ifT (rfl : (7 : Int32) = 7)]
    obtain ⟨M0', σ0', d1, d2, r0, k0, t0⟩ := z_qtext (j := 27) (j' := 24) o ⟨by decide, by decide, rfl⟩
    have o0 := o.go r0 k0 t0
    have d1' : K_X0_put_3 2199023255579 (msI M 3 1 0) = some ((), M0') := d1
    unfold KJ_X0_print_279 J_print_248
    rw [ifT (m1 _ o.1.2.1), d1', ob_some, ifT (k21 _ o0.1.2.1), (i40 _ o0.1.2.1).2.1, d2, ob_some, ifT i200, xi_, (t4 o0).2.1]
    obtain ⟨M1, σ1, a1, a2, r1, k1, t1⟩ := z_pname W0 X0 v1 o0.1
    have o1 := o0.go r1 k1 t1
    rw [a1, ob_some, a2, ob_some, ifT (k21 _ o1.1.2.1), (i40 _ o1.1.2.1).1, e, ifF (by decide : ¬ (1 : Int32) = 0), ifT i200, (t4 o1).1, e', ifT (rfl : (7 : Int32) = 7)]
    unfold KJ_X0_print_309 J_print_279
    obtain ⟨M2, σ2, b1, b2, r2, k2, t2⟩ := z_qtext (j := 29) (j' := 25) o1 ⟨by decide, by decide, rfl⟩
    have o2 := o1.go r2 k2 t2
    have b1' : K_X0_put_3 2199023255581 M1 = some ((), M2) := b1
    obtain ⟨M3, σ3, c1, c2, r3, k3, t3⟩ := z_ptree W0 X0 hK hN na h176 nd o2
    have o3 := o2.go r3 k3 t3
    obtain ⟨M4, σ4, g1, g2, r4, k4, t4'⟩ := z_sgn (j := 31) (c := 41) o3 (by decide) rfl
    have o4 := o3.go r4 k4 t4'
    have g1' : K_X0_put_3 2199023255583 M3 = some ((), M4) := g1
    rw [ifT (m1 _ o1.1.2.1), b1', ob_some, ifT (k21 _ o2.1.2.1), (i40 _ o2.1.2.1).2.2, c1, ob_some, ifT (k21 _ o3.1.2.1), (i40 _ o3.1.2.1).1, e, ifF (by decide : ¬ (1 : Int32) = 0), g1', ob_some, b2, ob_some, ifT i200, xi_, (t4 o2).2.2, c2, ob_some, ifT i200, (t4 o3).1, e', ifT (rfl : (7 : Int32) = 7), g2, ob_some, nm_eq]
    obtain ⟨r, f1, f2, f3⟩ := fin o4
    exact ⟨r, M4, _, f1, f2, f3⟩
end PRINT2
