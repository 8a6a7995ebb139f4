/-! Layer B: printing: leaves of solved trees, with their signs -/
set_option maxRecDepth 100000
section LEAFN
variable {C : PC} {P : Nat → Prop} {mss fss S : List Nat} {D : FQ} {M M0 M' : CM} {s0 σ σ' : TS} {B V I Bm U u n a w v : Nat} {z7 : Nat → Nat} {op kx x : Int32}
theorem t_84y (hk : kx = 2 ∨ kx = 3 ∨ kx = 4) (y : Int32) : J_printLeaf_84 kx 1 y σ = ob (J_printLeaf_84 kx 0 y σ) fun _ s => ob (F_letter 41 s) fun _ s => some ((), s) := by
  rcases hk with rfl | rfl | rfl
  · unfold J_printLeaf_84 J_printLeaf_98 J_printLeaf_123
    simp +decide only [↓reduceIte]
    rw [ob_assoc]
    exact ob_cg (fun _ s _ => rfl)
  · unfold J_printLeaf_84 J_printLeaf_98 J_printLeaf_120 J_printLeaf_123
    rw [ifF (by decide : ¬ (3 : Int32) = 4), ifF (by decide : ¬ (3 : Int32) = 4), ifT (rfl : (3 : Int32) = 3), ifT (rfl : (3 : Int32) = 3)]
    by_cases q : tI σ 176 = 0
    · rw [ifT q, ifT q]
      simp +decide only [↓reduceIte]
      rw [ob_assoc]
      refine ob_cg (fun _ s _ => ?_)
      rw [ob_assoc]
      refine ob_cg (fun _ s _ => ?_)
      rw [ob_assoc]
      exact ob_cg (fun _ s _ => rfl)
    · rw [ifF q, ifF q]
      simp +decide only [↓reduceIte]
      rw [ob_assoc]
      refine ob_cg (fun _ s _ => ?_)
      rw [ob_assoc]
      refine ob_cg (fun _ s _ => ?_)
      rw [ob_assoc]
      exact ob_cg (fun _ s _ => rfl)
  · unfold J_printLeaf_84 J_printLeaf_98 J_printLeaf_123
    simp +decide only [↓reduceIte]
    rw [ob_assoc]
    refine ob_cg (fun _ s _ => ?_)
    rw [ob_assoc]
    refine ob_cg (fun _ s _ => ?_)
    rw [ob_assoc]
    exact ob_cg (fun _ s _ => rfl)
/-- the twin's leaf by its head -/
theorem t_leafH (o : OuE M0 s0 M σ) (hn : n < 70000) (e : tA s0 121 n = kx) (ev : tA s0 122 n = nI v) (hv : v < 96) (h176 : ¬ tI s0 176 = 0) (h94 : tA s0 94 v = 0) (h177 : tA s0 177 v = nI w) (h178 : tA s0 178 v = x) : (x = 1 → F_printLeaf (nI n) σ = J_printLeaf_84 kx 0 (nI w) σ) ∧ (x = -1 → F_printLeaf (nI n) σ = ob (F_tellText 5 σ) fun _ s => J_printLeaf_84 kx 1 (nI w) s) := by
  have i70 : inb (nI n) 70000 := inb_nI' hn (by decide)
  have xn : ix (nI n) = n := ix_nI (by omega)
  have i96 : inb (nI v) 96 := inb_nI' hv (by decide)
  have xv : ix (nI v) = v := ix_nI (by omega)
  have g : ∀ {Mx : CM} {sx : TS}, OuE M0 s0 Mx sx → ∀ y, J_printLeaf_58 kx (nI v) y sx = J_printLeaf_84 kx y (nI w) sx := fun {Mx sx} o y => by
    unfold J_printLeaf_58
    rw [(o.2.2 176 rfl).1, ifF h176, ifT i96, xv, o.ta (k := 94) rfl, ifT h94, ifT i96, o.ta (k := 177) rfl, h177]
  have hd : F_printLeaf (nI n) σ = if 0 ≤ x then J_printLeaf_43 kx (nI v) σ else J_printLeaf_44 kx (nI v) 1 σ := by
    unfold F_printLeaf
    rw [ifT i70, xn, o.ta (k := 121) rfl, o.ta (k := 122) rfl, e, ev, nm_eq, ifT i70, nm_eq, (o.2.2 176 rfl).1, ifF h176, ifT i96, xv, o.ta (k := 94) rfl, ifT h94, ifT i96, o.ta (k := 178) rfl, h178]
  refine ⟨fun q => ?_, fun q => ?_⟩
  · rw [hd, q, ifT (by decide)]
    unfold J_printLeaf_43 J_printLeaf_44
    rw [ifT (rfl : (0 : Int32) = 0), g o]
  · rw [hd, q, ifF (by decide)]
    unfold J_printLeaf_44
    rw [ifF (by decide : ¬ (1 : Int32) = 0)]
    refine ob_cg (fun _ s e5 => ?_)
    have f : Ft [6, 9, 170, 171] σ s := (fS_F_tellText _ _ _ s e5).mono (by decide)
    unfold J_printLeaf_58
    rw [(f 176 rfl).1, (o.2.2 176 rfl).1, ifF h176, ifT i96, xv, (f 94 rfl).2.2.1, o.ta (k := 94) rfl, ifT h94, ifT i96, (f 177 rfl).2.2.1, o.ta (k := 177) rfl, h177]
/-- a leaf by its head -/
theorem pl_hd (W : FW C B P mss fss D M0 s0) (X : FlY z7 C P D mss M0 s0 V I Bm) (ka : mk M0 a = 18) (hn : n < 70000) (h176 : ¬ tI s0 176 = 0) (e : tA s0 121 n = kx) (ev : tA s0 122 n = nI v) (hv : v < 96) (h94 : tA s0 94 v = 0) (h177 : tA s0 177 v = nI w) (h178 : tA s0 178 v = x) (hw : w < V) (hu : u < 180) (h1 : mA M0 119 u = nI w) (hk : (op = 17 ∧ kx = 2 ∧ mA M0 120 u = nI 0) ∨ (op = 17 ∧ kx = 3 ∧ mA M0 120 u = nI 1) ∨ (op = 18 ∧ kx = 4 ∧ mA M0 120 u = nI 0)) (hx : (x = 1 ∧ mI M0 3400 a = op ∧ mI M0 3401 a = nI u) ∨ (x = -1 ∧ mI M0 3400 a = 7 ∧ mk M0 (mR M0 3405 a) = 18 ∧ mI M0 3400 (mR M0 3405 a) = op ∧ mI M0 3401 (mR M0 3405 a) = nI u)) : PlR M0 s0 a n := fun kf cfN cfC cfH M σ hkf o => by
  have i70 : inb (nI n) 70000 := inb_nI' hn (by decide)
  have xn : ix (nI n) = n := ix_nI (by omega)
  have kk : kx = 2 ∨ kx = 3 ∨ kx = 4 := by
    rcases hk with ⟨-, q, -⟩ | ⟨-, q, -⟩ | ⟨-, q, -⟩
    · exact Or.inl q
    · exact Or.inr (Or.inl q)
    · exact Or.inr (Or.inr q)
  obtain ⟨t1, t2⟩ := t_leafH o hn e ev hv h176 h94 h177 h178
  have tb : B_printNode cfN cfC cfH (nI n) σ = if tI σ 9 < 500 then F_printLeaf (nI n) σ else some ((), σ) := by
    unfold B_printNode
    rw [ifT i70, nm_eq, show tA σ 121 (ix (nI n)) = kx from by rw [xn, o.ta (k := 121) rfl]; exact e]
    rcases kk with rfl | rfl | rfl <;> simp +decide only [↓reduceIte] <;> rw [ob_idu]
  rw [tb]
  refine PrJ.b9 o.1 ?_
  rcases hx with ⟨q, e1, e2⟩ | ⟨q, e1, k2, e2, e3⟩
  · rw [t1 q]
    exact z_lfpos W X ka h176 hu hw e1 e2 h1 hk o
  · rw [t2 q]
    obtain ⟨kf, rfl⟩ : ∃ g, kf = g + 1 := ⟨kf - 1, by omega⟩
    unfold KB_X0_put_2
    rw [ifT (o.k18 ka), o.i (g := 3400) (by decide), e1]
    simp +decide only [↓reduceIte, o.k18 ka]
    rw [show K_X0_sign 7 M = some (2199023255552 + 20, M) from rfl, ob_some]
    refine (z_text (j := 20) (j' := 5) o.1 ⟨by decide, by decide, rfl⟩).go o (fun M1 σ1 o1 => ?_)
    rw [ifT (o1.k18 ka), o1.2.1.2.1, t_84y kk]
    refine (z_lfpos W X k2 h176 hu hw e2 e3 h1 hk o1 (cfK := KG_X0_put_2 kf)).go o1 (fun M2 σ2 o2 => ?_)
    exact (z_plet o2 41).go o2 (fun M3 σ3 o3 => PrJ.rf o3.1)
end LEAFN
