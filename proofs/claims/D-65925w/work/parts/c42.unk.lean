/-! Layer B: printing: unknowns -/
set_option maxRecDepth 100000
section PUNK
variable {C : PC} {P : Nat → Prop} {mss fss S : List Nat} {D : FQ} {M M0 M' : CM} {s0 σ σ' : TS} {B V I Bm U u n : Nat} {z7 : Nat → Nat}
/-- an unknown's name: a variable, or how often it is differentiated -/
theorem z_punk (W : FW C B P mss fss D M0 s0) (X : FlY z7 C P D mss M0 s0 V I Bm) (uk : UkR V M0 s0 U) (hu : u < U) (o : OuE M0 s0 M σ) : PrJ M σ (K_X0_putUnknown (nI u) M) (F_printUnknown (nI u) σ) := by
  obtain ⟨⟨b, ⟨b1, -⟩, b2, b3⟩, ⟨d, d1, d2, d3⟩, -⟩ := uk.2 u hu
  have U180 := uk.1.2.2
  have i180 : inb (nI u) 180 := inb_nI' (by omega) (by decide)
  have i200 : inb (nI u) 200 := inb_nI' (by omega) (by decide)
  have xu : ix (nI u) = u := ix_nI (by omega)
  have kA : ∀ M1, OuK M0 M1 → mA M1 119 u = nI b ∧ mA M1 120 u = nI d := fun M1 k => ⟨(k.2.2.1 _ _ (by decide)).trans b2, (k.2.2.1 _ _ (by decide)).trans d2⟩
  have tA_ : ∀ {Mx : CM} {sx : TS}, OuE M0 s0 Mx sx → tA sx 187 u = nI b ∧ tA sx 188 u = nI d := fun {Mx sx} o => ⟨(o.ta (k := 187) rfl u).trans b3, (o.ta (k := 188) rfl u).trans d3⟩
  unfold K_X0_putUnknown F_printUnknown KJ_X0_putUnknown_31
  rw [ifT i180, ifT i200, xu, (kA M o.2.1).2, (kA M o.2.1).1, (tA_ o).1, (tA_ o).2]
  by_cases q : d = 0
  · subst q
    rw [ifT (show nI 0 ≤ 0 by decide), ifT (show nI 0 = 0 by decide), ifT i180, ifT i200]
    refine (z_pname W X b1 o).go o (fun M1 σ1 o1 => ?_)
    rw [ifT i180, (kA M1 o1.2.1).2, ifT (show nI 0 ≤ 0 by decide)]
    exact PrJ.rf o1.1
  · have g : ¬ nI d ≤ 0 := fun z => by have := (bI_le (b := 0) (by omega) (by decide)).mp z; omega
    rw [ifF g, ifF (show ¬ nI d = 0 from fun z => by have := (bI_eq (b := 0) (by omega) (by decide)).mp z; omega)]
    refine (z_plet o 100).go o (fun M1 σ1 o1 => ?_)
    rw [ifT i180, ifT i200, (kA M1 o1.2.1).2, (tA_ o1).2]
    refine (z_pnum o1.1 (by omega)).go o1 (fun M2 σ2 o2 => ?_)
    refine (z_plet o2 40).go o2 (fun M3 σ3 o3 => ?_)
    rw [ifT i180, ifT i200, (kA M3 o3.2.1).1, (tA_ o3).1]
    refine (z_pname W X b1 o3).go o3 (fun M4 σ4 o4 => ?_)
    rw [ifT i180, (kA M4 o4.2.1).2, ifF g]
    exact (z_plet o4 41).go o4 (fun M5 σ5 o5 => PrJ.rf o5.1)
end PUNK
