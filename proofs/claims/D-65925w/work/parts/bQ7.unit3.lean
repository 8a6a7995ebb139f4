/-! Layer B: units: what the twin says of each sort of node -/
set_option maxRecDepth 100000
section UNIT3
variable {σ σ' σ0 σ2 : TS} {a b : Int} {n m k h d s base f g x y z v : Nat} {e e2 : E3} {u w : UV} {vv : Nat → Nat} {op : Int32}
theorem fu2 : 100000 < FU := by have := FUb; omega
theorem iI0 : iI 0 = (0 : Int32) := by decide
theorem iI2 : iI 2 = (2 : Int32) := by decide
theorem td2 {a : Int} (h1 : -(100000 : Int) ≤ a) (h2 : a ≤ 100000) : -(100000 : Int) ≤ a.tdiv 2 ∧ a.tdiv 2 ≤ 100000 := by
  by_cases q : 0 ≤ a
  · rw [Int.tdiv_eq_ediv_of_nonneg q]; omega
  · have e : a.tdiv 2 = -((-a).tdiv 2) := by rw [Int.neg_tdiv, Int.neg_neg]
    rw [e, Int.tdiv_eq_ediv_of_nonneg (by omega)]; omega
theorem iI_d2 {a : Int} (h1 : -(100000 : Int) ≤ a) (h2 : a ≤ 100000) : iI a / 2 = iI (a.tdiv 2) := by
  have h3 := td2 h1 h2
  apply Int32.toInt_inj.mp
  rw [Int32.toInt_div, iI_toInt (by omega), show (2 : Int32).toInt = 2 by decide, iI_toInt (by omega), Int.bmod_eq_of_le] <;> omega
theorem TSp.na (hn : n < 70000) (ho : ¬ arO (tA σ0 121 n)) (T : TU σ0 h n u) : TSp σ0 h n u := by
  intro d s base σ _ hna f hs hb hl
  obtain ⟨σ', a1, a2, a3, a4⟩ := T d s σ (hna ho) f hs hl
  refine ⟨0, σ', Nat.zero_le _, a2, a3, a4, fun f' g hf => ?_⟩
  obtain ⟨f', rfl⟩ : ∃ q, f' = q + 1 := ⟨f' - 1, by omega⟩
  rw [L_chainUnit_7, ifT (inb_nI' hn (by decide)), ix_nI (by omega), t_arith, ob_some, ifT (by rw [ifF (by rw [(f 121 rfl).2.2.1]; exact ho)]), ob_some, a1, ob_some]
  rfl
theorem TSp.ar (hn : n < 70000) (ho : arO (tA σ0 121 n)) (e1 : tA σ0 122 n = nI x) (e2 : tA σ0 123 n = nI y) (S1 : TSp σ0 h x u) (T2 : TU σ0 h y w) (b1 : bV 100000 u) (b2 : bV 100000 w) : TSp σ0 (h + 1) n (uOp (tA σ0 121 n) u w) := by
  intro d s base σ ha _ f hs hb hl
  have hd := ha ho
  obtain ⟨s9, hs9⟩ : ∃ q, q = tsI (tsA σ 170 s (nI n)) 171 (nI (s + 1)) := ⟨_, rfl⟩
  have f9 : Ft FJ σ s9 := by rw [hs9]; exact ((Ft.rf _ σ).p_tsA rfl).p_tsI rfl
  obtain ⟨m, σ1, m1, g1, g2, g3, g4⟩ := S1 d (s + 1) base s9 (fun _ => by omega) (fun _ => by omega) (f.tr f9) (by rw [hs9]; rfl) (by omega) (by omega)
  have f1 : Ft FJ σ0 (tsI σ1 171 (nI s)) := ((f.tr f9).tr g1).tr ((Ft.rf _ σ1).p_tsI rfl)
  obtain ⟨σ2, c1, c2, c3, c4⟩ := T2 d s (tsI σ1 171 (nI s)) (by omega) f1 rfl (by omega)
  have q9 : ∀ j, tA s9 170 j = if j = s then nI n else tA σ 170 j := fun j => by
    rw [hs9]
    show tA (tsA σ 170 s (nI n)) 170 j = _
    rw [tA_tsA]
    by_cases z : j = s
    · rw [ifT ⟨rfl, z⟩, ifT z]
    · rw [ifF (fun y => z y.2), ifF z]
  have fn : ∀ k, k = 121 ∨ k = 122 ∨ k = 123 → tA σ1 k n = tA σ0 k n := fun k hk => by
    have := ((f.tr f9).tr g1) k (by rcases hk with rfl | rfl | rfl <;> rfl)
    exact this.2.2.1 n
  have fs : ∀ k, k = 121 ∨ k = 122 ∨ k = 123 → tA σ k n = tA σ0 k n := fun k hk => (f k (by rcases hk with rfl | rfl | rfl <;> rfl)).2.2.1 n
  refine ⟨m + 1, σ2, by omega, (f9.tr g1).tr (((Ft.rf _ σ1).p_tsI rfl).tr c2), c3, fun j hj => ?_, fun f' g hf => ?_⟩
  · rw [c4 j hj, show tA (tsI σ1 171 (nI s)) 170 j = tA σ1 170 j from rfl, g3 j (by omega), q9, ifF (by omega)]
  · obtain ⟨f', rfl⟩ : ∃ q, f' = q + 1 := ⟨f' - 1, by omega⟩
    have st : L_chainUnit_7 (G_chainUnit d).2 (f' + 1) (nI base) (nI n) σ = L_chainUnit_7 (G_chainUnit d).2 f' (nI base) (nI x) s9 := by
      rw [L_chainUnit_7, ifT (inb_nI' hn (by decide)), ix_nI (by omega), t_arith, ob_some, ifF (by rw [ifT (by rw [fs 121 (by omega)]; exact ho)]; decide), hs, ifT (inb_nI' (by omega) (by decide)), ix_nI (by omega), nm_eq, show tI (tsA σ 170 s (nI n)) 171 = nI s from hs, nI_addL, ← hs9, nm_eq, ifT (inb_nI' hn (by decide)), (f9 122 rfl).2.2.1, fs 122 (by omega), e1, nm_eq]
    rw [st, show g + (m + 1) = g + 1 + m by omega, g4 f' (g + 1) (by omega)]
    have up := t_up (cf := (G_chainUnit d).2) (g := g) b1 b2 g2 (by omega) hb (by rw [g3 s (by omega), q9, ifT rfl]) hn (by rw [fn 123 (by omega)]; exact e2) (by rw [fn 121 (by omega)]; exact ho) c2 c1
    rw [fn 121 (by omega)] at up
    exact up
theorem TU.ar (hn : n < 70000) (ho : arO (tA σ0 121 n)) (S : TSp σ0 (h + 1) n u) : TU σ0 (h + 1) n u := by
  intro d s σ hd f hs hl
  obtain ⟨d, rfl⟩ : ∃ q, d = q + 2 := ⟨d - 2, by omega⟩
  obtain ⟨m, σ', m1, g1, g2, g3, g4⟩ := S d s s σ (fun _ => by omega) (fun z => absurd ho z) f hs (Nat.le_refl _) hl
  have fu := fu2
  refine ⟨σ', ?_, g1, g2, g3⟩
  have e : B_chainUnit (G_chainUnit d).2 (nI n) σ = some (eUV u, σ') := by
    have e1 : B_chainUnit (G_chainUnit d).2 (nI n) σ = (ob (L_chainUnit_7 (G_chainUnit d).2 FU (nI s) (nI n) σ) fun q s14 => ob ((G_chainUnit d).2 q s14) fun r17 s16 => L_chainUnit_56 (G_chainUnit d).2 FU (nI s) r17 s16) := by
      unfold B_chainUnit
      rw [nm_eq, hs]
      simp only [ob_id]
    have g5 := g4 FU (FU - m) (by omega)
    rw [Nat.sub_add_cancel (by omega)] at g5
    rw [e1, g5]
    obtain ⟨g, hg⟩ : ∃ q, FU - m = q + 1 := ⟨FU - m - 1, by omega⟩
    rw [hg, L_chainUnit_56, g2, ifT ((bI_le (by omega) (by omega)).mpr (Nat.le_refl _))]
  show B_unit (G_chainUnit (d + 1)).2 (B_chainUnit (G_chainUnit d).2) (nI n) σ = _
  have o := (f 121 rfl).2.2.1 n
  have hn' : inb (nI n) 70000 := inb_nI' hn (by decide)
  have xn : ix (nI n) = n := ix_nI (by omega)
  rw [B_unit, ifT hn', xn, o]
  rcases ho with q | q | q | q
  · rw [q, ifF (show ¬ (5 : Int32) = 0 by decide), ifF (show ¬ (5 : Int32) = 1 by decide), ifF (show ¬ (5 : Int32) = 2 by decide), ifF (show ¬ (5 : Int32) = 3 by decide), ifF (show ¬ (5 : Int32) = 4 by decide), ifT (rfl : (5 : Int32) = 5), e, ob_some]
  · rw [q, ifF (show ¬ (6 : Int32) = 0 by decide), ifF (show ¬ (6 : Int32) = 1 by decide), ifF (show ¬ (6 : Int32) = 2 by decide), ifF (show ¬ (6 : Int32) = 3 by decide), ifF (show ¬ (6 : Int32) = 4 by decide), ifF (show ¬ (6 : Int32) = 5 by decide), ifT (rfl : (6 : Int32) = 6), e, ob_some]
  · rw [q, ifF (show ¬ (8 : Int32) = 0 by decide), ifF (show ¬ (8 : Int32) = 1 by decide), ifF (show ¬ (8 : Int32) = 2 by decide), ifF (show ¬ (8 : Int32) = 3 by decide), ifF (show ¬ (8 : Int32) = 4 by decide), ifF (show ¬ (8 : Int32) = 5 by decide), ifF (show ¬ (8 : Int32) = 6 by decide), ifF (show ¬ (8 : Int32) = 7 by decide), ifT (rfl : (8 : Int32) = 8), e, ob_some]
  · rw [q, ifF (show ¬ (9 : Int32) = 0 by decide), ifF (show ¬ (9 : Int32) = 1 by decide), ifF (show ¬ (9 : Int32) = 2 by decide), ifF (show ¬ (9 : Int32) = 3 by decide), ifF (show ¬ (9 : Int32) = 4 by decide), ifF (show ¬ (9 : Int32) = 5 by decide), ifF (show ¬ (9 : Int32) = 6 by decide), ifF (show ¬ (9 : Int32) = 7 by decide), ifF (show ¬ (9 : Int32) = 8 by decide), ifT (rfl : (9 : Int32) = 9), e, ob_some]
theorem TU.num (hn : n < 70000) (ho : tA σ0 121 n = 0)  : TU σ0 (h + 1) n (some none) := by
  intro d s σ hd f hs hl
  obtain ⟨d, rfl⟩ : ∃ q, d = q + 1 := ⟨d - 1, by omega⟩
  have o : tA σ 121 n = 0 := ((f 121 rfl).2.2.1 n).trans ho
  have hn' : inb (nI n) 70000 := inb_nI' hn (by decide)
  have xn : ix (nI n) = n := ix_nI (by omega)
  refine ⟨σ, ?_, Ft.rf _ σ, hs, fun _ _ => rfl⟩
  · show B_unit (G_chainUnit d).2 (G_chainUnit d).1 (nI n) σ = _
    rw [B_unit, ifT hn', xn, o, ifT (rfl : (0 : Int32) = 0)]
    rfl
theorem TU.tim (hn : n < 70000) (ho : tA σ0 121 n = 1)  : TU σ0 (h + 1) n (some (some (0, 1, 0))) := by
  intro d s σ hd f hs hl
  obtain ⟨d, rfl⟩ : ∃ q, d = q + 1 := ⟨d - 1, by omega⟩
  have o : tA σ 121 n = 1 := ((f 121 rfl).2.2.1 n).trans ho
  have hn' : inb (nI n) 70000 := inb_nI' hn (by decide)
  have xn : ix (nI n) = n := ix_nI (by omega)
  refine ⟨σ, ?_, Ft.rf _ σ, hs, fun _ _ => rfl⟩
  · show B_unit (G_chainUnit d).2 (G_chainUnit d).1 (nI n) σ = _
    rw [B_unit, ifT hn', xn, o, ifF (show ¬ (1 : Int32) = 0 by decide), ifT (rfl : (1 : Int32) = 1)]
    have t := t_uf (σ := σ) (e := ((0 : Int), (1 : Int), (0 : Int))) ⟨⟨by decide, by decide⟩, ⟨by decide, by decide⟩, by decide, by decide⟩
    rw [show F_unitFrom 0 1 0 σ = _ from t, ob_some]; rfl
theorem TU.var (hn : n < 70000) (ho : tA σ0 121 n = 2) (e1 : tA σ0 122 n = nI v) (hu : ∀ σ, Ft FJ σ0 σ → F_unitOf (nI v) σ = some (pU e, σ)) : TU σ0 (h + 1) n (some (some e)) := by
  intro d s σ hd f hs hl
  obtain ⟨d, rfl⟩ : ∃ q, d = q + 1 := ⟨d - 1, by omega⟩
  have o : tA σ 121 n = 2 := ((f 121 rfl).2.2.1 n).trans ho
  have hn' : inb (nI n) 70000 := inb_nI' hn (by decide)
  have xn : ix (nI n) = n := ix_nI (by omega)
  refine ⟨σ, ?_, Ft.rf _ σ, hs, fun _ _ => rfl⟩
  · show B_unit (G_chainUnit d).2 (G_chainUnit d).1 (nI n) σ = _
    rw [B_unit, ifT hn', xn, o, ifF (show ¬ (2 : Int32) = 0 by decide), ifF (show ¬ (2 : Int32) = 1 by decide), ifT (rfl : (2 : Int32) = 2)]
    rw [ifT hn', (f 122 rfl).2.2.1, e1, hu σ f, ob_some]; rfl
theorem TU.pre (hn : n < 70000) (ho : tA σ0 121 n = 4) (e1 : tA σ0 122 n = nI v) (hu : ∀ σ, Ft FJ σ0 σ → F_unitOf (nI v) σ = some (pU e, σ)) : TU σ0 (h + 1) n (some (some e)) := by
  intro d s σ hd f hs hl
  obtain ⟨d, rfl⟩ : ∃ q, d = q + 1 := ⟨d - 1, by omega⟩
  have o : tA σ 121 n = 4 := ((f 121 rfl).2.2.1 n).trans ho
  have hn' : inb (nI n) 70000 := inb_nI' hn (by decide)
  have xn : ix (nI n) = n := ix_nI (by omega)
  refine ⟨σ, ?_, Ft.rf _ σ, hs, fun _ _ => rfl⟩
  · show B_unit (G_chainUnit d).2 (G_chainUnit d).1 (nI n) σ = _
    rw [B_unit, ifT hn', xn, o, ifF (show ¬ (4 : Int32) = 0 by decide), ifF (show ¬ (4 : Int32) = 1 by decide), ifF (show ¬ (4 : Int32) = 2 by decide), ifF (show ¬ (4 : Int32) = 3 by decide), ifT (rfl : (4 : Int32) = 4)]
    rw [ifT hn', (f 122 rfl).2.2.1, e1, hu σ f, ob_some]; rfl
theorem TU.der (hn : n < 70000) (ho : tA σ0 121 n = 3) (e1 : tA σ0 122 n = nI v) (hb : bU 100 e) (hu : ∀ σ, Ft FJ σ0 σ → F_unitOf (nI v) σ = some (pU e, σ)) : TU σ0 (h + 1) n (some (some (eDr e))) := by
  intro d s σ hd f hs hl
  obtain ⟨d, rfl⟩ : ∃ q, d = q + 1 := ⟨d - 1, by omega⟩
  have o : tA σ 121 n = 3 := ((f 121 rfl).2.2.1 n).trans ho
  have hn' : inb (nI n) 70000 := inb_nI' hn (by decide)
  have xn : ix (nI n) = n := ix_nI (by omega)
  refine ⟨σ, ?_, Ft.rf _ σ, hs, fun _ _ => rfl⟩
  · show B_unit (G_chainUnit d).2 (G_chainUnit d).1 (nI n) σ = _
    rw [B_unit, ifT hn', xn, o, ifF (show ¬ (3 : Int32) = 0 by decide), ifF (show ¬ (3 : Int32) = 1 by decide), ifF (show ¬ (3 : Int32) = 2 by decide), ifT (rfl : (3 : Int32) = 3)]
    obtain ⟨p1, p2, p3⟩ := t_pt (σ := σ) (hb.mono (by decide : 100 ≤ 400000))
    rw [ifT hn', (f 122 rfl).2.2.1, e1, hu σ f, ob_some, p1, ob_some, p2, ob_some, p3, ob_some, show (1 : Int32) = iI 1 from iI1.symm, iI_sub]
    have t := t_uf (σ := σ) (e := eDr e) (by
      obtain ⟨⟨a1, a2⟩, ⟨b1, b2⟩, c1, c2⟩ := hb
      unfold eDr
      exact ⟨⟨by simp only; omega, by simp only; omega⟩, ⟨by simp only; omega, by simp only; omega⟩, by simp only; omega, by simp only; omega⟩)
    rw [show F_unitFrom (iI e.1) (iI (e.2.1 - 1)) (iI e.2.2) σ = _ from t, ob_some]; rfl
theorem TU.neg (hn : n < 70000) (ho : tA σ0 121 n = 7) (e1 : tA σ0 122 n = nI x) (T : TU σ0 h x u) : TU σ0 (h + 1) n (u) := by
  intro d s σ hd f hs hl
  obtain ⟨d, rfl⟩ : ∃ q, d = q + 1 := ⟨d - 1, by omega⟩
  have o : tA σ 121 n = 7 := ((f 121 rfl).2.2.1 n).trans ho
  have hn' : inb (nI n) 70000 := inb_nI' hn (by decide)
  have xn : ix (nI n) = n := ix_nI (by omega)
  obtain ⟨σ', a1, a2, a3, a4⟩ := T d s σ (by omega) f hs (by omega)
  refine ⟨σ', ?_, a2, a3, a4⟩
  · show B_unit (G_chainUnit d).2 (G_chainUnit d).1 (nI n) σ = _
    rw [B_unit, ifT hn', xn, o, ifF (show ¬ (7 : Int32) = 0 by decide), ifF (show ¬ (7 : Int32) = 1 by decide), ifF (show ¬ (7 : Int32) = 2 by decide), ifF (show ¬ (7 : Int32) = 3 by decide), ifF (show ¬ (7 : Int32) = 4 by decide), ifF (show ¬ (7 : Int32) = 5 by decide), ifF (show ¬ (7 : Int32) = 6 by decide), ifT (rfl : (7 : Int32) = 7)]
    rw [ifT hn', (f 122 rfl).2.2.1, e1, a1, ob_some]
theorem TU.abs (hn : n < 70000) (ho : tA σ0 121 n = 10) (e1 : tA σ0 122 n = nI x) (T : TU σ0 h x u) : TU σ0 (h + 1) n (u) := by
  intro d s σ hd f hs hl
  obtain ⟨d, rfl⟩ : ∃ q, d = q + 1 := ⟨d - 1, by omega⟩
  have o : tA σ 121 n = 10 := ((f 121 rfl).2.2.1 n).trans ho
  have hn' : inb (nI n) 70000 := inb_nI' hn (by decide)
  have xn : ix (nI n) = n := ix_nI (by omega)
  obtain ⟨σ', a1, a2, a3, a4⟩ := T d s σ (by omega) f hs (by omega)
  refine ⟨σ', ?_, a2, a3, a4⟩
  · show B_unit (G_chainUnit d).2 (G_chainUnit d).1 (nI n) σ = _
    rw [B_unit, ifT hn', xn, o, ifF (show ¬ (10 : Int32) = 0 by decide), ifF (show ¬ (10 : Int32) = 1 by decide), ifF (show ¬ (10 : Int32) = 2 by decide), ifF (show ¬ (10 : Int32) = 3 by decide), ifF (show ¬ (10 : Int32) = 4 by decide), ifF (show ¬ (10 : Int32) = 5 by decide), ifF (show ¬ (10 : Int32) = 6 by decide), ifF (show ¬ (10 : Int32) = 7 by decide), ifF (show ¬ (10 : Int32) = 8 by decide), ifF (show ¬ (10 : Int32) = 9 by decide), ifT (rfl : (10 : Int32) = 10)]
    rw [ifT hn', (f 122 rfl).2.2.1, e1, a1, ob_some]
theorem TU.flr (hn : n < 70000) (ho : tA σ0 121 n = 13) (e1 : tA σ0 122 n = nI x) (T : TU σ0 h x u) : TU σ0 (h + 1) n (u) := by
  intro d s σ hd f hs hl
  obtain ⟨d, rfl⟩ : ∃ q, d = q + 1 := ⟨d - 1, by omega⟩
  have o : tA σ 121 n = 13 := ((f 121 rfl).2.2.1 n).trans ho
  have hn' : inb (nI n) 70000 := inb_nI' hn (by decide)
  have xn : ix (nI n) = n := ix_nI (by omega)
  obtain ⟨σ', a1, a2, a3, a4⟩ := T d s σ (by omega) f hs (by omega)
  refine ⟨σ', ?_, a2, a3, a4⟩
  · show B_unit (G_chainUnit d).2 (G_chainUnit d).1 (nI n) σ = _
    rw [B_unit, ifT hn', xn, o, ifF (show ¬ (13 : Int32) = 0 by decide), ifF (show ¬ (13 : Int32) = 1 by decide), ifF (show ¬ (13 : Int32) = 2 by decide), ifF (show ¬ (13 : Int32) = 3 by decide), ifF (show ¬ (13 : Int32) = 4 by decide), ifF (show ¬ (13 : Int32) = 5 by decide), ifF (show ¬ (13 : Int32) = 6 by decide), ifF (show ¬ (13 : Int32) = 7 by decide), ifF (show ¬ (13 : Int32) = 8 by decide), ifF (show ¬ (13 : Int32) = 9 by decide), ifF (show ¬ (13 : Int32) = 10 by decide), ifF (show ¬ (13 : Int32) = 11 by decide), ifF (show ¬ (13 : Int32) = 12 by decide), ifT (rfl : (13 : Int32) = 13)]
    rw [ifT hn', (f 122 rfl).2.2.1, e1, a1, ob_some]
theorem TU.sgn (hn : n < 70000) (ho : tA σ0 121 n = 12) (e1 : tA σ0 122 n = nI x) (T : TU σ0 h x u) (hb : bV 400000 u) : TU σ0 (h + 1) n (uSg u) := by
  intro d s σ hd f hs hl
  obtain ⟨d, rfl⟩ : ∃ q, d = q + 1 := ⟨d - 1, by omega⟩
  have o : tA σ 121 n = 12 := ((f 121 rfl).2.2.1 n).trans ho
  have hn' : inb (nI n) 70000 := inb_nI' hn (by decide)
  have xn : ix (nI n) = n := ix_nI (by omega)
  obtain ⟨σ', a1, a2, a3, a4⟩ := T d s σ (by omega) f hs (by omega)
  refine ⟨σ', ?_, a2, a3, a4⟩
  · show B_unit (G_chainUnit d).2 (G_chainUnit d).1 (nI n) σ = _
    rw [B_unit, ifT hn', xn, o, ifF (show ¬ (12 : Int32) = 0 by decide), ifF (show ¬ (12 : Int32) = 1 by decide), ifF (show ¬ (12 : Int32) = 2 by decide), ifF (show ¬ (12 : Int32) = 3 by decide), ifF (show ¬ (12 : Int32) = 4 by decide), ifF (show ¬ (12 : Int32) = 5 by decide), ifF (show ¬ (12 : Int32) = 6 by decide), ifF (show ¬ (12 : Int32) = 7 by decide), ifF (show ¬ (12 : Int32) = 8 by decide), ifF (show ¬ (12 : Int32) = 9 by decide), ifF (show ¬ (12 : Int32) = 10 by decide), ifF (show ¬ (12 : Int32) = 11 by decide), ifT (rfl : (12 : Int32) = 12)]
    rw [ifT hn', (f 122 rfl).2.2.1, e1, a1, ob_some]
    cases u with
    | none => rw [ifT ((e_un hb).mpr rfl)]; rfl
    | some u => rw [ifF (fun z => by cases (e_un hb).mp z)]; rfl
theorem TU.mn (hn : n < 70000) (ho : tA σ0 121 n = 14) (e1 : tA σ0 122 n = nI x) (e2 : tA σ0 123 n = nI y) (T : TU σ0 h x u) (T2 : TU σ0 h y w) (b1 : bV 400000 u) (b2 : bV 400000 w) : TU σ0 (h + 1) n (uAl u w) := by
  intro d s σ hd f hs hl
  obtain ⟨d, rfl⟩ : ∃ q, d = q + 1 := ⟨d - 1, by omega⟩
  have o : tA σ 121 n = 14 := ((f 121 rfl).2.2.1 n).trans ho
  have hn' : inb (nI n) 70000 := inb_nI' hn (by decide)
  have xn : ix (nI n) = n := ix_nI (by omega)
  obtain ⟨σ', a1, a2, a3, a4⟩ := T d s σ (by omega) f hs (by omega)
  obtain ⟨σ2, c1, c2, c3, c4⟩ := T2 d s σ' (by omega) (f.tr a2) a3 (by omega)
  refine ⟨σ2, ?_, a2.tr c2, c3, fun j hj => (c4 j hj).trans (a4 j hj)⟩
  · show B_unit (G_chainUnit d).2 (G_chainUnit d).1 (nI n) σ = _
    rw [B_unit, ifT hn', xn, o, ifF (show ¬ (14 : Int32) = 0 by decide), ifF (show ¬ (14 : Int32) = 1 by decide), ifF (show ¬ (14 : Int32) = 2 by decide), ifF (show ¬ (14 : Int32) = 3 by decide), ifF (show ¬ (14 : Int32) = 4 by decide), ifF (show ¬ (14 : Int32) = 5 by decide), ifF (show ¬ (14 : Int32) = 6 by decide), ifF (show ¬ (14 : Int32) = 7 by decide), ifF (show ¬ (14 : Int32) = 8 by decide), ifF (show ¬ (14 : Int32) = 9 by decide), ifF (show ¬ (14 : Int32) = 10 by decide), ifF (show ¬ (14 : Int32) = 11 by decide), ifF (show ¬ (14 : Int32) = 12 by decide), ifF (show ¬ (14 : Int32) = 13 by decide), ifT (rfl : (14 : Int32) = 14)]
    rw [ifT hn', (f 122 rfl).2.2.1, e1, a1, ob_some, ifT hn', (a2 123 rfl).2.2.1, (f 123 rfl).2.2.1, e2, c1, ob_some, t_alike b1 b2, ob_some]
theorem TU.mx (hn : n < 70000) (ho : tA σ0 121 n = 15) (e1 : tA σ0 122 n = nI x) (e2 : tA σ0 123 n = nI y) (T : TU σ0 h x u) (T2 : TU σ0 h y w) (b1 : bV 400000 u) (b2 : bV 400000 w) : TU σ0 (h + 1) n (uAl u w) := by
  intro d s σ hd f hs hl
  obtain ⟨d, rfl⟩ : ∃ q, d = q + 1 := ⟨d - 1, by omega⟩
  have o : tA σ 121 n = 15 := ((f 121 rfl).2.2.1 n).trans ho
  have hn' : inb (nI n) 70000 := inb_nI' hn (by decide)
  have xn : ix (nI n) = n := ix_nI (by omega)
  obtain ⟨σ', a1, a2, a3, a4⟩ := T d s σ (by omega) f hs (by omega)
  obtain ⟨σ2, c1, c2, c3, c4⟩ := T2 d s σ' (by omega) (f.tr a2) a3 (by omega)
  refine ⟨σ2, ?_, a2.tr c2, c3, fun j hj => (c4 j hj).trans (a4 j hj)⟩
  · show B_unit (G_chainUnit d).2 (G_chainUnit d).1 (nI n) σ = _
    rw [B_unit, ifT hn', xn, o, ifF (show ¬ (15 : Int32) = 0 by decide), ifF (show ¬ (15 : Int32) = 1 by decide), ifF (show ¬ (15 : Int32) = 2 by decide), ifF (show ¬ (15 : Int32) = 3 by decide), ifF (show ¬ (15 : Int32) = 4 by decide), ifF (show ¬ (15 : Int32) = 5 by decide), ifF (show ¬ (15 : Int32) = 6 by decide), ifF (show ¬ (15 : Int32) = 7 by decide), ifF (show ¬ (15 : Int32) = 8 by decide), ifF (show ¬ (15 : Int32) = 9 by decide), ifF (show ¬ (15 : Int32) = 10 by decide), ifF (show ¬ (15 : Int32) = 11 by decide), ifF (show ¬ (15 : Int32) = 12 by decide), ifF (show ¬ (15 : Int32) = 13 by decide), ifF (show ¬ (15 : Int32) = 14 by decide), ifT (rfl : (15 : Int32) = 15)]
    rw [ifT hn', (f 122 rfl).2.2.1, e1, a1, ob_some, ifT hn', (a2 123 rfl).2.2.1, (f 123 rfl).2.2.1, e2, c1, ob_some, t_alike b1 b2, ob_some]
theorem TU.if_ (hn : n < 70000) (ho : tA σ0 121 n = 16) (e1 : tA σ0 123 n = nI x) (e2 : tA σ0 124 n = nI y) (T : TU σ0 h x u) (T2 : TU σ0 h y w) (b1 : bV 400000 u) (b2 : bV 400000 w) : TU σ0 (h + 1) n (uAl u w) := by
  intro d s σ hd f hs hl
  obtain ⟨d, rfl⟩ : ∃ q, d = q + 1 := ⟨d - 1, by omega⟩
  have o : tA σ 121 n = 16 := ((f 121 rfl).2.2.1 n).trans ho
  have hn' : inb (nI n) 70000 := inb_nI' hn (by decide)
  have xn : ix (nI n) = n := ix_nI (by omega)
  obtain ⟨σ', a1, a2, a3, a4⟩ := T d s σ (by omega) f hs (by omega)
  obtain ⟨σ2, c1, c2, c3, c4⟩ := T2 d s σ' (by omega) (f.tr a2) a3 (by omega)
  refine ⟨σ2, ?_, a2.tr c2, c3, fun j hj => (c4 j hj).trans (a4 j hj)⟩
  · show B_unit (G_chainUnit d).2 (G_chainUnit d).1 (nI n) σ = _
    rw [B_unit, ifT hn', xn, o, ifF (show ¬ (16 : Int32) = 0 by decide), ifF (show ¬ (16 : Int32) = 1 by decide), ifF (show ¬ (16 : Int32) = 2 by decide), ifF (show ¬ (16 : Int32) = 3 by decide), ifF (show ¬ (16 : Int32) = 4 by decide), ifF (show ¬ (16 : Int32) = 5 by decide), ifF (show ¬ (16 : Int32) = 6 by decide), ifF (show ¬ (16 : Int32) = 7 by decide), ifF (show ¬ (16 : Int32) = 8 by decide), ifF (show ¬ (16 : Int32) = 9 by decide), ifF (show ¬ (16 : Int32) = 10 by decide), ifF (show ¬ (16 : Int32) = 11 by decide), ifF (show ¬ (16 : Int32) = 12 by decide), ifF (show ¬ (16 : Int32) = 13 by decide), ifF (show ¬ (16 : Int32) = 14 by decide), ifF (show ¬ (16 : Int32) = 15 by decide), ifT (rfl : (16 : Int32) = 16)]
    rw [ifT hn', (f 123 rfl).2.2.1, e1, a1, ob_some, ifT hn', (a2 124 rfl).2.2.1, (f 124 rfl).2.2.1, e2, c1, ob_some, t_alike b1 b2, ob_some]
theorem TU.sqr (hn : n < 70000) (ho : tA σ0 121 n = 11) (e1 : tA σ0 122 n = nI x) (T : TU σ0 h x u) (hb : bV 100000 u) : TU σ0 (h + 1) n (uSq u) := by
  intro d s σ hd f hs hl
  obtain ⟨d, rfl⟩ : ∃ q, d = q + 1 := ⟨d - 1, by omega⟩
  have o : tA σ 121 n = 11 := ((f 121 rfl).2.2.1 n).trans ho
  have hn' : inb (nI n) 70000 := inb_nI' hn (by decide)
  have xn : ix (nI n) = n := ix_nI (by omega)
  obtain ⟨σ', a1, a2, a3, a4⟩ := T d s σ (by omega) f hs (by omega)
  refine ⟨σ', ?_, a2, a3, a4⟩
  · show B_unit (G_chainUnit d).2 (G_chainUnit d).1 (nI n) σ = _
    rw [B_unit, ifT hn', xn, o, ifF (show ¬ (11 : Int32) = 0 by decide), ifF (show ¬ (11 : Int32) = 1 by decide), ifF (show ¬ (11 : Int32) = 2 by decide), ifF (show ¬ (11 : Int32) = 3 by decide), ifF (show ¬ (11 : Int32) = 4 by decide), ifF (show ¬ (11 : Int32) = 5 by decide), ifF (show ¬ (11 : Int32) = 6 by decide), ifF (show ¬ (11 : Int32) = 7 by decide), ifF (show ¬ (11 : Int32) = 8 by decide), ifF (show ¬ (11 : Int32) = 9 by decide), ifF (show ¬ (11 : Int32) = 10 by decide), ifT (rfl : (11 : Int32) = 11)]
    rw [ifT hn', (f 122 rfl).2.2.1, e1, a1, ob_some]
    cases u with
    | none => rw [ifF (show ¬ 0 ≤ lg_cmp (eUV none) 0 by decide)]; rfl
    | some u =>
      cases u with
      | none => rw [ifF (show ¬ 0 ≤ lg_cmp (eUV (some none)) 0 by decide)]; rfl
      | some e =>
        have hb : bU 100000 e := hb
        have hb4 : bU 400000 e := hb.mono (by decide)
        obtain ⟨p1, p2, p3⟩ := t_pt (σ := σ') hb4
        have dv : ∀ a : Int, -(100000 : Int) ≤ a → a ≤ 100000 → iI a / 2 = iI (a.tdiv 2) ∧ (iI a - iI a / 2 * 2 = 0 ↔ a - a.tdiv 2 * 2 = 0) := fun a h1 h2 => by
          have e1 := iI_d2 h1 h2
          have h3 := td2 h1 h2
          refine ⟨e1, ?_⟩
          rw [e1, show (2 : Int32) = iI 2 from iI2.symm, iI_mul, iI_sub, show (0 : Int32) = iI 0 from iI0.symm, iI_eq (by omega) (by omega)]
        obtain ⟨⟨q1, q2⟩, ⟨q3, q4⟩, q5, q6⟩ := hb
        obtain ⟨x1, y1⟩ := dv e.1 q1 q2
        obtain ⟨x2, y2⟩ := dv e.2.1 q3 q4
        obtain ⟨x3, y3⟩ := dv e.2.2 q5 q6
        rw [show eUV (some (some e)) = pU e from rfl, ifT (lg_ge.mpr (pU_ne hb4).2.2), p1, ob_some]
        show _ = some (eUV (if eEv e then some (some (eHf e)) else none), σ')
        by_cases z1 : e.1 - e.1.tdiv 2 * 2 = 0
        · rw [ifT (y1.mpr z1), p2, ob_some]
          by_cases z2 : e.2.1 - e.2.1.tdiv 2 * 2 = 0
          · rw [ifT (y2.mpr z2), p3, ob_some]
            by_cases z3 : e.2.2 - e.2.2.tdiv 2 * 2 = 0
            · rw [ifT (y3.mpr z3), p1, ob_some, p2, ob_some, p3, ob_some, x1, x2, x3]
              have t := t_uf (σ := σ') (e := eHf e) (by
                have h3 := td2 q1 q2
                have h4 := td2 q3 q4
                have h5 := td2 q5 q6
                unfold eHf
                exact ⟨⟨by simp only; omega, by simp only; omega⟩, ⟨by simp only; omega, by simp only; omega⟩, by simp only; omega, by simp only; omega⟩)
              rw [show F_unitFrom (iI (e.1.tdiv 2)) (iI (e.2.1.tdiv 2)) (iI (e.2.2.tdiv 2)) σ' = _ from t, ob_some, ifT (show eEv e from ⟨z1, z2, z3⟩)]; rfl
            · rw [ifF (fun z => z3 (y3.mp z)), ifF (fun z : eEv e => z3 z.2.2)]; rfl
          · rw [ifF (fun z => z2 (y2.mp z)), ifF (fun z : eEv e => z2 z.2.1)]; rfl
        · rw [ifF (fun z => z1 (y1.mp z)), ifF (fun z : eEv e => z1 z.1)]; rfl
end UNIT3
