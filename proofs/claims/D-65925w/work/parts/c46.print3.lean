/-! Layer B: print: equations of a solvable model; the call print whole -/
set_option maxRecDepth 100000
section PRINT3
variable {C : PC} {P : Nat → Prop} {mss fss S0 : List Nat} {D : FQ} {M M0 M' : CM} {s s0 σ σ' : TS} {B V I Bm K N K1 K2 Nf E A Wn q qs n a i U S : Nat} {z7 : Nat → Nat} {c : Nat} {x : Int32} {hd : Nat → Nat} {sg : Nat → Int32}
theorem NmU.of (V96 : V ≤ 96) (uk : UkR V M s U) (al : AlL V s hd sg) (am : AlM D V M s hd sg) (hu : ∀ v u x, v < V → LfU s v u x → u < U) : NmU V M s := by
  have U180 := uk.1.2.2
  have key : ∀ v u x, v < V → LfU s v u x → ∃ w, w < V ∧ tA s 177 v = nI w ∧ u < U ∧ tA s 187 u = nI w ∧ tA s 188 u = 0 := fun v u x vV l => by
    have uU := hu v u x vV l
    obtain ⟨-, ⟨w, w1, w2, w3⟩, c1, -⟩ := l
    have hw : hd v < V := by have := (al v vV).1; omega
    have : w = hd v := nIq (w2.symm.trans (am v vV).1.2) (by omega) (by omega)
    subst this
    obtain ⟨⟨b, ⟨-, hh⟩, -⟩, -⟩ := uk.2 u uU
    obtain ⟨-, h7, h8⟩ := hh _ u hw c1 w3
    exact ⟨_, hw, w2, uU, h7, h8⟩
  have ka : ∀ u, u < U → mA M 119 u = tA s 187 u ∧ mA M 120 u = tA s 188 u := fun u hu => by
    obtain ⟨⟨b, -, b2, b3⟩, ⟨o, -, o2, o3⟩, -⟩ := uk.2 u hu
    exact ⟨b2.trans b3.symm, o2.trans o3.symm⟩
  refine ⟨fun v u x vV l => ?_, fun v u x d vV l e hd' => ?_⟩
  · obtain ⟨w, w1, w2, w3, w4, w5⟩ := key v u x vV l
    exact ⟨w, w1, w2, (ka u w3).1.trans w4, (ka u w3).2.trans w5⟩
  · obtain ⟨w, w1, w2, w3, w4, w5⟩ := key v u x vV l
    rcases (uk.2 u w3).2.2.2 with z | ⟨d', ⟨-, e7, e8⟩, dU, z⟩
    · exact absurd (e.symm.trans z) (nI_m1 (by omega))
    · have : d' = d := nIq (z.symm.trans e) (by omega) (by omega)
      subst this
      exact ⟨w, w1, w2, (ka _ dU).1.trans (e7.trans w4), (ka _ dU).2.trans (e8.trans (by rw [w5]; decide))⟩
theorem LvB.ftS (f : Ft S0 σ s) (hS : [94, 121, 122, 123, 124, 154, 162, 177, 178, 179].all (fun k => !S0.contains k) = true) : ∀ (h n : Nat), LvB U σ h n → LvB U s h n
  | 0, _, _ => trivial
  | h + 1, n, z => by
    have ih := fun n z => LvB.ftS f hS h n z
    have hf : ∀ k, k ∈ [94, 121, 122, 123, 124, 154, 162, 177, 178, 179] → S0.contains k = false := fun k hk => by simpa using List.all_eq_true.mp hS k hk
    have ta : ∀ k, k ∈ [94, 121, 122, 123, 124, 154, 162, 177, 178, 179] → ∀ j, tA s k j = tA σ k j := fun k hk => (f k (hf k hk)).2.2.1
    obtain ⟨⟨b1, b2, b3⟩, c1, c2, c3, c4⟩ := z
    have lu : ∀ {v u x}, LfU s v u x → LfU σ v u x := fun {v u x} h => by
      unfold LfU at *
      rw [ta 94 (by decide), ta 178 (by decide)] at h
      obtain ⟨a1, ⟨w, w1, w2, w3⟩, a2⟩ := h
      exact ⟨a1, ⟨w, w1, (ta 177 (by decide) v).symm.trans w2, (ta 179 (by decide) w).symm.trans w3⟩, a2⟩
    have rk : RqOk σ n → RqOk s n := fun ⟨r, r1, r2, r3⟩ => ⟨r, r1, by rw [ta 162 (by decide)]; exact r2, by rw [(f 154 (hf 154 (by decide))).1]; exact r3⟩
    unfold LvB
    rw [ta 121 (by decide), ta 122 (by decide), ta 123 (by decide), ta 124 (by decide)]
    exact ⟨⟨fun v u x k e l => b1 v u x k e (lu l), b2, fun k => rk (b3 k)⟩, fun k => ih _ (c1 k), fun k => ⟨ih _ (c2 k).1, ih _ (c2 k).2⟩, fun k => ⟨ih _ (c3 k).1, ih _ (c3 k).2.1, ih _ (c3 k).2.2⟩, fun k => ⟨ih _ (c4 k).1, ih _ (c4 k).2⟩⟩
/-- where printing a solved equation begins -/
theorem OuE.st3 (M : CM) (σ : TS) (y : Int32) : OuE M (tsI σ 176 y) (msI M 3 1 0) (tsI (tsI σ 9 0) 176 y) := by
  obtain ⟨a, b, c⟩ := OuE.st M (tsI σ 176 y)
  refine ⟨⟨0, by decide, by rw [mI_msI, ifT ⟨rfl, rfl⟩]; rfl, rfl, fun i hi => absurd hi (Nat.not_lt_zero _)⟩, b, ?_⟩
  intro k hk
  obtain ⟨c1, c2, c3, c4⟩ := c k hk
  refine ⟨?_, rfl, fun i => rfl, fun i => rfl⟩
  rw [← c1]
  by_cases z : k = 176
  · subst z; rfl
  · by_cases z2 : k = 9
    · subst z2; rfl
    · show (if k = 176 then _ else if k = 9 then _ else _) = (if k = 9 then _ else if k = 176 then _ else _)
      rw [ifF z, ifF z2, ifF z2, ifF z]
theorem SvS.all (sv : SvS V E A Wn q U S K1 K2 N hd sg c D M σ) (V96 : V ≤ 96) (U180 : U ≤ 180) : NmU V M σ := NmU.of V96 sv.1.2.2.1 sv.2.2.1.1 sv.2.2.1.2.1 (fun v u x hv l => SvS.hu sv V96 U180 hv l)
/-- the equation i of a solvable model -/
theorem z_print1 (w : RnW C B P mss fss V U S q A Wn K1 K2 N D M σ) (h171 : tI σ 171 = nI 0) (hi : i < S) (hg : tA σ 180 i = 0) : ∃ r M' σ', KJ_X0_print_123 1 (nI i) M = some (r, M') ∧ J_print_114 1 (nI i) σ = some (r, σ') ∧ OuR M' σ' ∧ OuK M M' ∧ Ft [6, 9, 170, 171, 176] σ σ' ∧ tI σ' 171 = nI 0 := by
  obtain ⟨⟨V96, -, U180, S180, -, h7⟩, -, -, -, -, uk, -⟩ := w.st
  obtain ⟨n1, n2, ⟨a1, x1, l1⟩, a2, x2, l2⟩ := w.eq hi hg
  obtain ⟨W, ⟨z7, I, Bm, K, Nf, E, qs, hd, sg, c, fp, sv⟩, kn⟩ := w
  obtain ⟨s0, hs0⟩ : ∃ s0, s0 = tsI σ 176 1 := ⟨_, rfl⟩
  have f0 : Ft [176] σ s0 := by rw [hs0]; exact (Ft.rf _ σ).p_tsI rfl
  have W0 := (W.wzT f0 (by decide)).1
  have X0 := fp.1.tw W f0 (by decide) (by decide)
  have uk0 : UkR V M s0 U := uk.mv rfl (f0 197 rfl).1 (fun u => ⟨rfl, rfl, rfl⟩) (fun u => ⟨(f0 179 rfl).2.2.1 u, (f0 187 rfl).2.2.1 u, (f0 188 rfl).2.2.1 u, (f0 189 rfl).2.2.1 u⟩)
  have nm0 : NmU V M s0 := by
    have := SvS.all sv V96 U180
    have e1 : tA s0 177 = tA σ 177 := funext (f0 177 rfl).2.2.1
    have e2 : tA s0 189 = tA σ 189 := funext (f0 189 rfl).2.2.1
    have lu : ∀ {v u x}, LfU s0 v u x → LfU σ v u x := fun {v u x} h => by
      obtain ⟨a1, ⟨w, w1, w2, w3⟩, a2, a3, a4⟩ := h
      exact ⟨⟨((f0 94 rfl).2.2.1 v).symm.trans a1.1, a1.2⟩, ⟨w, w1, ((f0 177 rfl).2.2.1 v).symm.trans w2, ((f0 179 rfl).2.2.1 w).symm.trans w3⟩, a2, ((f0 178 rfl).2.2.1 v).symm.trans a3, a4⟩
    unfold NmU
    rw [e1, e2]
    exact ⟨fun v u x hv l => this.1 v u x hv (lu l), fun v u x d hv l => this.2 v u x d hv (lu l)⟩
  have hk : ∀ k, k < K1 → mk M ((pl D 134).getD k 0) = 18 := fun k hk => by
    have l1 := sv.1.1.1.2.2.2.1.2.1
    exact (W.2.1.2.1 134 (by decide) k (by omega)).1
  have h176 : ¬ tI s0 176 = 0 := by rw [hs0]; show ¬ (1 : Int32) = 0; decide
  have nx : NdX σ s0 N := NdX.ft f0 rfl
  have y1 := SxR.mv SnK.rf nx (Nat.le_refl _) (Nat.le_refl _) h7 _ _ _ _ _ (Nat.le_refl _) x1
  have y2 := SxR.mv SnK.rf nx (Nat.le_refl _) (Nat.le_refl _) h7 _ _ _ _ _ (Nat.le_refl _) x2
  have p1 := SxR.pn W0 X0 uk0 nm0 h7 hk h176 _ _ _ _ y1 (LvB.ftS f0 (by decide) _ _ l1)
  have p2 := SxR.pn W0 X0 uk0 nm0 h7 hk h176 _ _ _ _ y2 (LvB.ftS f0 (by decide) _ _ l2)
  have o : OuQ M s0 0 (msI M 3 1 0) (tsI (tsI σ 9 0) 176 1) := by rw [hs0]; exact ⟨OuE.st3 M σ 1, h171⟩
  obtain ⟨M1, σ1, c1, c2, r1, k1, t1⟩ := z_put 500 200 300 _ _ 0 _ _ p1 (by decide) (by decide) (by decide) o
  have o1 := o.go r1 k1 t1
  obtain ⟨M2, σ2, b1, b2, r2, k2, t2⟩ := z_qtext (j := 30) (j' := 23) o1 ⟨by decide, by decide, rfl⟩
  have o2 := o1.go r2 k2 t2
  obtain ⟨M3, σ3, d1, d2, r3, k3, t3⟩ := z_put 500 200 300 _ _ 0 _ _ p2 (by decide) (by decide) (by decide) o2
  have o3 := o2.go r3 k3 t3
  have i180 : inb (nI i) 180 := inb_nI' (by omega) (by decide)
  have i400 : inb (nI i) 400 := inb_nI' (by omega) (by decide)
  have xi_ : ix (nI i) = i := ix_nI (by omega)
  have em : mX (msI M 3 1 0) 126 i = mX M 126 i ∧ mX (msI M 3 1 0) 127 i = mX M 127 i := ⟨rfl, rfl⟩
  have et : tA (tsI (tsI σ 9 0) 176 1) 141 i = nI n1 := a1
  have et2 : tA σ2 142 i = nI n2 := by rw [o2.1.ta (k := 142) rfl, hs0]; exact a2
  have b1' : K_X0_put_3 2199023255582 M1 = some ((), M2) := b1
  have c1' : K_X0_put_2 (mX M 126 i) (msI M 3 1 0) = some ((), M1) := c1
  have d1' : K_X0_put_2 (mX M 127 i) M2 = some ((), M3) := d1
  have c2' : F_printNode (nI n1) (tsI (tsI σ 9 0) 176 1) = some ((), σ1) := c2
  have d2' : F_printNode (nI n2) σ2 = some ((), σ3) := d2
  obtain ⟨n, m1, m2, m3, m4⟩ := id r3
  unfold KJ_X0_print_123 J_print_114 J_print_130 J_print_158 K_X0_putBoth
  simp +decide only [↓reduceIte]
  simp only [nm_eq]
  rw [ifT i180, xi_, em.1, em.2, ifT i400, et, c1', ob_some, b1', ob_some, d1', ob_some, ob_some, c2', ob_some, b2, ob_some, ifT i400, et2, d2', ob_some]
  refine ⟨nI n, M3, tsI σ3 176 0, ?_, by show some (tI σ3 9, tsI σ3 176 0) = _; rw [m3], ⟨n, m1, m2, m3, m4⟩, o3.1.2.1, ?_, ?_⟩
  · rw [ifT i180, m2]
  · exact ((f0.mono (by decide)).tr (o3.1.2.2.mono (by decide))).tr ((Ft.rf [6, 9, 170, 171, 176] σ3).p_tsI rfl)
  · show tI σ3 171 = _
    exact o3.2
theorem te_row (o : OuR M σ) (c : x ≠ 1) (hN : N < 400) (e : ∀ i, i < N → TeO M σ (KJ_X0_print_123 x (nI i) M) (J_print_114 x (nI i) σ)) (x2 : Int32) : TeO M σ (KJ_X0_print_96 x x2 (nI N) M) (J_print_87 x x2 (nI N) σ) := by
  unfold KJ_X0_print_96 J_print_87
  by_cases q1 : x2 < 0
  · rw [ifT q1, ifT q1]; exact TeO.st o _
  rw [ifF q1, ifF q1]
  obtain ⟨i, rfl, i2⟩ := bI_of (Int32.not_lt.mp q1)
  by_cases q2 : nI N ≤ nI i
  · rw [ifT q2, ifT q2]; exact TeO.st o _
  rw [ifF q2, ifF q2, ifF c, ifF c]
  exact e i (Nat.lt_of_not_le (fun z => q2 ((bI_le (by omega) i2).mpr z)))
theorem te_of (h171 : tI σ 171 = nI 0) {kr : Option (Int32 × CM)} {tq : Option (Int32 × TS)} (h : ∃ r M' σ', kr = some (r, M') ∧ tq = some (r, σ') ∧ OuR M' σ' ∧ OuK M M' ∧ Ft [6, 9, 170, 171, 176] σ σ' ∧ tI σ' 171 = nI 0) : TeO M σ kr tq := by
  obtain ⟨r, M', σ', a, b, c, d, e, f⟩ := h
  exact ⟨r, M', σ', a, b, c, d, e, f.trans h171.symm⟩
theorem le4 {x : Int32} (h : ¬ x < 0) (g : x ≤ 4) : x = 0 ∨ x = 1 ∨ x = 2 ∨ x = 3 ∨ x = 4 := by
  obtain ⟨i, rfl, i2⟩ := bI_of (Int32.not_lt.mp h)
  have := (bI_le (b := 4) i2 (by decide)).mp g
  have : i = 0 ∨ i = 1 ∨ i = 2 ∨ i = 3 ∨ i = 4 := by omega
  rcases this with rfl | rfl | rfl | rfl | rfl
  · exact Or.inl rfl
  · exact Or.inr (Or.inl rfl)
  · exact Or.inr (Or.inr (Or.inl rfl))
  · exact Or.inr (Or.inr (Or.inr (Or.inl rfl)))
  · exact Or.inr (Or.inr (Or.inr (Or.inr rfl)))
/-- the call print of a flat model -/
theorem z_printF (fp : FP C P mss D M σ z7 V I Bm K N E A Wn q qs) (W : FW C B P mss fss D M σ) (o : OuR M σ) (h171 : tI σ 171 = nI 0) (x2 : Int32) (h : x = 0 ∨ x = 2 ∨ x = 3 ∨ x = 4) : TeO M σ (KJ_X0_print_45 x x2 M) (J_print_36 x x2 σ) := by
  obtain ⟨-, -, -, ⟨⟨a1, a2, a3, -⟩, -⟩, ⟨⟨b1, b2, -⟩, -⟩, ⟨⟨c1, c2, c3, -⟩, -⟩, ⟨⟨d1, d2, d3⟩, -⟩, -, -, -, -, -, -, e2⟩ := id fp
  unfold KJ_X0_print_45 J_print_36
  rcases h with rfl | rfl | rfl | rfl
  · rw [ifT (rfl : (0 : Int32) = 0), ifT (rfl : (0 : Int32) = 0), a1, a2]
    exact te_row o (by decide) (by omega) (fun i hi => te_of h171 (z_print0 fp W h171 hi)) x2
  · rw [ifF (by decide : ¬ (2 : Int32) = 0), ifF (by decide : ¬ (2 : Int32) = 1), ifT (rfl : (2 : Int32) = 2), ifF (by decide : ¬ (2 : Int32) = 0), ifF (by decide : ¬ (2 : Int32) = 1), ifT (rfl : (2 : Int32) = 2), d1, d2]
    exact te_row o (by decide) (by omega) (fun i hi => te_of h171 (z_print2 fp W h171 hi)) x2
  · rw [ifF (by decide : ¬ (3 : Int32) = 0), ifF (by decide : ¬ (3 : Int32) = 1), ifF (by decide : ¬ (3 : Int32) = 2), ifT (rfl : (3 : Int32) = 3), ifF (by decide : ¬ (3 : Int32) = 0), ifF (by decide : ¬ (3 : Int32) = 1), ifF (by decide : ¬ (3 : Int32) = 2), ifT (rfl : (3 : Int32) = 3), c1, c2]
    exact te_row o (by decide) (by omega) (fun i hi => te_of h171 (z_print3 fp W h171 hi)) x2
  · rw [ifF (by decide : ¬ (4 : Int32) = 0), ifF (by decide : ¬ (4 : Int32) = 1), ifF (by decide : ¬ (4 : Int32) = 2), ifF (by decide : ¬ (4 : Int32) = 3), ifF (by decide : ¬ (4 : Int32) = 0), ifF (by decide : ¬ (4 : Int32) = 1), ifF (by decide : ¬ (4 : Int32) = 2), ifF (by decide : ¬ (4 : Int32) = 3), b1, e2]
    exact te_row o (by decide) (by omega) (fun i hi => te_of h171 (z_print4 fp W h171 hi)) x2
theorem z_printS (w : RnW C B P mss fss V U S q A Wn K1 K2 N D M σ) (o : OuR M σ) (h171 : tI σ 171 = nI 0) (x2 : Int32) : TeO M σ (KJ_X0_print_45 1 x2 M) (J_print_36 1 x2 σ) := by
  have ix : ∃ E, IdxR V E U S K1 N D M σ := by
    obtain ⟨W, ⟨z7, I, Bm, K, Nf, E, qs, hd, sg, c, fp, sv⟩, kn⟩ := w
    exact ⟨E, sv.1⟩
  obtain ⟨E, -, ⟨m65, i143, S180, -⟩, -, -, eqs, -⟩ := ix
  unfold KJ_X0_print_45 J_print_36
  rw [ifF (by decide : ¬ (1 : Int32) = 0), ifT (rfl : (1 : Int32) = 1), ifF (by decide : ¬ (1 : Int32) = 0), ifT (rfl : (1 : Int32) = 1), m65, i143]
  unfold KJ_X0_print_96 J_print_87
  by_cases q1 : x2 < 0
  · rw [ifT q1, ifT q1]; exact TeO.st o _
  rw [ifF q1, ifF q1]
  obtain ⟨i, rfl, i2⟩ := bI_of (Int32.not_lt.mp q1)
  by_cases q2 : nI S ≤ nI i
  · rw [ifT q2, ifT q2]; exact TeO.st o _
  have hi : i < S := Nat.lt_of_not_le (fun z => q2 ((bI_le (by omega) i2).mpr z))
  obtain ⟨⟨g1, g2⟩, -⟩ := eqs i hi
  rw [ifF q2, ifF q2, ifT (rfl : (1 : Int32) = 1), ifT (rfl : (1 : Int32) = 1), ifT (inb_nI' (by omega) (by decide)), ifT (inb_nI' (by omega) (by decide)), ix_nI i2, g1]
  by_cases q3 : tA σ 180 i = 0
  · rw [ifT q3, ifT q3]
    exact te_of h171 (z_print1 w h171 hi q3)
  · rw [ifF q3, ifF q3]; exact TeO.st o _
/-- the call print: before a flat model; of a flat one; of a solvable one -/
theorem z_print_n (o : OuR M σ) (h : mI M 30 1 = 0 ∧ tI σ 108 = 0) (x1 x2 : Int32) : TeO M σ (K_X0_print x1 x2 M) (F_print x1 x2 σ) := by
  unfold K_X0_print F_print
  rw [ifT h.1, ifT h.2]
  by_cases q : x1 < 0
  · rw [ifT q]; exact TeO.st o _
  rw [ifF q]
  by_cases q2 : x1 ≤ 4
  · rw [ifT q2]; exact TeO.st o _
  · rw [ifF q2, ifT h.1]; exact TeO.st o _
theorem z_print (fp : FP C P mss D M σ z7 V I Bm K N E A Wn q qs) (W : FW C B P mss fss D M σ) (o : OuR M σ) (h171 : tI σ 171 = nI 0) (h : ¬ mI M 30 1 = 0 ∧ ¬ tI σ 108 = 0) (h46 : (mI M 46 1 = 0 ∧ tI σ 109 = 0) ∨ ((¬ mI M 46 1 = 0 ∧ ¬ tI σ 109 = 0) ∧ ∃ V U S q A Wn K1 K2 N, RnW C B P mss fss V U S q A Wn K1 K2 N D M σ)) (x1 x2 : Int32) : TeO M σ (K_X0_print x1 x2 M) (F_print x1 x2 σ) := by
  unfold K_X0_print F_print
  by_cases q : x1 < 0
  · rw [ifT q, ifF h.1, ifF h.2, ifT q]; exact TeO.st o _
  rw [ifF q, ifF h.2, ifF q]
  by_cases q2 : x1 ≤ 4
  · rw [ifT q2, ifF h.1, ifT q2]
    rcases le4 q q2 with e | e | e | e | e
    · rw [ifF (by rw [e]; decide), ifF (by rw [e]; decide)]
      exact z_printF fp W o h171 x2 (Or.inl e)
    · rw [ifT e, ifT e]
      rcases h46 with ⟨g1, g2⟩ | ⟨⟨g1, g2⟩, V, U, S, q, A, Wn, K1, K2, N, w⟩
      · rw [ifT g1, ifT g2]; exact TeO.st o _
      · rw [ifF g1, ifF g2, e]
        exact z_printS w o h171 x2
    · rw [ifF (by rw [e]; decide), ifF (by rw [e]; decide)]
      exact z_printF fp W o h171 x2 (Or.inr (Or.inl e))
    · rw [ifF (by rw [e]; decide), ifF (by rw [e]; decide)]
      exact z_printF fp W o h171 x2 (Or.inr (Or.inr (Or.inl e)))
    · rw [ifF (by rw [e]; decide), ifF (by rw [e]; decide)]
      exact z_printF fp W o h171 x2 (Or.inr (Or.inr (Or.inr e)))
  · rw [ifF q2, ifF h.1, ifF q2]; exact TeO.st o _
end PRINT3
