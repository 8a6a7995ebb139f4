/-! Layer B: printing: leaves of solved trees by their heads -/
set_option maxRecDepth 100000
section LEAFS
variable {C : PC} {P : Nat → Prop} {mss fss S : List Nat} {D : FQ} {M M0 M' : CM} {s0 σ σ' : TS} {B V I Bm U u n a w v : Nat} {z7 : Nat → Nat} {op kx x : Int32} {cfK : Nat → CM → Option (Unit × CM)}
/-- an unknown that is variable w -/
theorem z_punk0 (W : FW C B P mss fss D M0 s0) (X : FlY z7 C P D mss M0 s0 V I Bm) (hu : u < 180) (hw : w < V) (h1 : mA M0 119 u = nI w) (h2 : mA M0 120 u = nI 0) (o : OuE M0 s0 M σ) : PrJ M σ (K_X0_putUnknown (nI u) M) (F_printVariable (nI w) σ) := by
  have i180 : inb (nI u) 180 := inb_nI' hu (by decide)
  have xu : ix (nI u) = u := ix_nI (by omega)
  have kA : ∀ M1, OuK M0 M1 → mA M1 119 u = nI w ∧ mA M1 120 u = nI 0 := fun M1 k => ⟨(k.2.2.1 _ _ (by decide)).trans h1, (k.2.2.1 _ _ (by decide)).trans h2⟩
  unfold K_X0_putUnknown KJ_X0_putUnknown_31
  rw [ifT i180, xu, (kA M o.2.1).2, (kA M o.2.1).1, ifT (show nI 0 ≤ 0 by decide), ifT i180, ← ob_idu (X := F_printVariable (nI w) σ)]
  refine (z_pname W X hw o).go o (fun M1 σ1 o1 => ?_)
  rw [ifT i180, (kA M1 o1.2.1).2, ifT (show nI 0 ≤ 0 by decide)]
  exact PrJ.rf o1.1
/-- its derivative -/
theorem z_punk1 (W : FW C B P mss fss D M0 s0) (X : FlY z7 C P D mss M0 s0 V I Bm) (hu : u < 180) (hw : w < V) (h1 : mA M0 119 u = nI w) (h2 : mA M0 120 u = nI 1) (o : OuE M0 s0 M σ) : PrJ M σ (K_X0_putUnknown (nI u) M) (ob (F_tellText 7 σ) fun _ s => ob (F_printVariable (nI w) s) fun _ s => ob (F_letter 41 s) fun _ s => some ((), s)) := by
  have i180 : inb (nI u) 180 := inb_nI' hu (by decide)
  have xu : ix (nI u) = u := ix_nI (by omega)
  have kA : ∀ M1, OuK M0 M1 → mA M1 119 u = nI w ∧ mA M1 120 u = nI 1 := fun M1 k => ⟨(k.2.2.1 _ _ (by decide)).trans h1, (k.2.2.1 _ _ (by decide)).trans h2⟩
  have t7 : F_tellText 7 σ = ob (F_letter 100 σ) fun _ s => ob (F_printNumber (nI 1) s) fun _ s => F_letter 40 s := by
    rw [t_text (by decide)]
    show (ob (F_letter 100 σ) fun _ s => ob (F_letter 49 s) fun _ s => ob (F_letter 40 s) fun _ s => some ((), s)) = _
    refine ob_cg (fun _ s _ => ?_)
    have e1 : F_printNumber (nI 1) s = F_letter 49 s := by
      have fu := FUb
      unfold F_printNumber J_printNumber_10 J_printNumber_22
      rw [ifT (show (0 : Int32) ≤ nI 1 by decide), ifT (show (0 : Int32) ≤ nI 1 by decide), show (nI 1).toInt64 = n64 1 from rfl, show (1 : Int64) = n64 (10 ^ 0) from rfl, t_num26 (n := 1) (k := 0) (by decide) (by decide) (Or.inl rfl) (by decide) 0 0 FU s rfl (by omega), ob_some, t_num48 (n := 1) (by decide) 0 FU s (by decide) (by omega), ob_idu]
      exact tpL_one
    rw [e1]
    exact ob_cg (fun _ s _ => ob_idu)
  unfold K_X0_putUnknown KJ_X0_putUnknown_31
  rw [ifT i180, xu, (kA M o.2.1).2, ifF (show ¬ nI 1 ≤ 0 by decide), t7, ob_assoc]
  refine (z_plet o 100).go o (fun M1 σ1 o1 => ?_)
  rw [ifT i180, (kA M1 o1.2.1).2, ob_assoc]
  refine (z_pnum o1.1 (by decide)).go o1 (fun M2 σ2 o2 => ?_)
  refine (z_plet o2 40).go o2 (fun M3 σ3 o3 => ?_)
  rw [ifT i180, (kA M3 o3.2.1).1]
  refine (z_pname W X hw o3).go o3 (fun M4 σ4 o4 => ?_)
  rw [ifT i180, (kA M4 o4.2.1).2, ifF (show ¬ nI 1 ≤ 0 by decide)]
  exact (z_plet o4 41).go o4 (fun M5 σ5 o5 => PrJ.rf o5.1)
/-- a leaf by its head, without the sign -/
theorem z_lfpos (W : FW C B P mss fss D M0 s0) (X : FlY z7 C P D mss M0 s0 V I Bm) (ka : mk M0 a = 18) (h176 : ¬ tI s0 176 = 0) (hu : u < 180) (hw : w < V) (e : mI M0 3400 a = op) (ev : mI M0 3401 a = nI u) (h1 : mA M0 119 u = nI w) (hk : (op = 17 ∧ kx = 2 ∧ mA M0 120 u = nI 0) ∨ (op = 17 ∧ kx = 3 ∧ mA M0 120 u = nI 1) ∨ (op = 18 ∧ kx = 4 ∧ mA M0 120 u = nI 0)) (o : OuE M0 s0 M σ) : PrJ M σ (KB_X0_put_2 cfK a M) (J_printLeaf_84 kx 0 (nI w) σ) := by
  have e176 : tI σ 176 = tI s0 176 := (o.2.2 176 rfl).1
  have i31 : ∀ M1, OuK M0 M1 → mI M1 3401 a = nI u := fun M1 k => (k.1 _ _ (by omega)).trans ev
  rcases hk with ⟨rfl, rfl, h2⟩ | ⟨rfl, rfl, h2⟩ | ⟨rfl, rfl, h2⟩
  · have tw : J_printLeaf_84 2 0 (nI w) σ = F_printVariable (nI w) σ := by
      unfold J_printLeaf_84 J_printLeaf_98 J_printLeaf_123
      simp +decide only [↓reduceIte]
      exact ob_idu
    rw [tw]
    unfold KB_X0_put_2
    rw [ifT (o.k18 ka), o.i (g := 3400) (by decide), e]
    simp +decide only [↓reduceIte, o.k18 ka]
    rw [ob_idk, i31 M o.2.1]
    exact z_punk0 W X hu hw h1 h2 o
  · have tw : J_printLeaf_84 3 0 (nI w) σ = ob (F_tellText 7 σ) fun _ s => ob (F_printVariable (nI w) s) fun _ s => ob (F_letter 41 s) fun _ s => some ((), s) := by
      unfold J_printLeaf_84 J_printLeaf_98 J_printLeaf_120 J_printLeaf_123
      rw [ifF (by decide : ¬ (3 : Int32) = 4), ifT (rfl : (3 : Int32) = 3), e176, ifF h176]
      simp +decide only [↓reduceIte]
    rw [tw]
    unfold KB_X0_put_2
    rw [ifT (o.k18 ka), o.i (g := 3400) (by decide), e]
    simp +decide only [↓reduceIte, o.k18 ka]
    rw [ob_idk, i31 M o.2.1]
    exact z_punk1 W X hu hw h1 h2 o
  · have tw : J_printLeaf_84 4 0 (nI w) σ = ob (F_tellText 6 σ) fun _ s => ob (F_printVariable (nI w) s) fun _ s => ob (F_letter 41 s) fun _ s => some ((), s) := by
      unfold J_printLeaf_84 J_printLeaf_98 J_printLeaf_123
      simp +decide only [↓reduceIte]
    rw [tw]
    unfold KB_X0_put_2
    rw [ifT (o.k18 ka), o.i (g := 3400) (by decide), e]
    simp +decide only [↓reduceIte, o.k18 ka]
    rw [show K_X0_sign 18 M = some (2199023255552 + 19, M) from rfl, ob_some]
    refine (z_text (j := 19) (j' := 6) o.1 ⟨by decide, by decide, rfl⟩).go o (fun M1 σ1 o1 => ?_)
    rw [ifT (o1.k18 ka), i31 M1 o1.2.1]
    refine (z_punk0 W X hu hw h1 h2 o1).go o1 (fun M2 σ2 o2 => ?_)
    exact (z_plet o2 41).go o2 (fun M3 σ3 o3 => PrJ.rf o3.1)
end LEAFS
