/-! Layer B: the flat model: its head: resets, and the root -/
set_option maxRecDepth 100000
section HEAD2
variable {C : PC} {D D' : FQ} {M M' M1 M2 M3 M4 M5 M6 : CM} {σ σ' s : TS} {mss fss : List Nat} {B V I Bm k g o R : Nat} {P : Nat → Prop} {x1 : Int32} {T : Nat → Prop} {S : List Nat}
theorem t_mkHd : F_makeFlat x1 σ = tF1 x1 (tF0 x1 σ) := by
  have i0 : inb (0 : Int32) 200 := inb_nI' (a := 0) (by decide) (by decide)
  have x0 : ix (0 : Int32) = 0 := ix_nI (n := 0) (by decide)
  unfold F_makeFlat tF1
  simp only [ifT i0, x0, nm_eq]
  rfl
theorem k_mkHd {mo : Nat} (h1 : K_J2_clear 102 (kRs rsL M) = some ((), M2)) (h2 : K_J2_clear 109 M2 = some ((), M3)) (h3 : mk M3 105 = 4) (h4 : KL_X0_flatten_86 FU mo 0 (msR (msI (msI (msI M3 24 1 0) 604 105 0) 605 105 0) 27 1 105) = some ((), M5)) (h5 : K_X0_newInst 0 mo (-1) 0 M5 = some (.inl R, M6)) : K_X0_flatten mo M = kF1 mo R M6 := by
  have ec : K_X3_clear 105 (msI M3 24 1 0) = some ((), msI (msI (msI M3 24 1 0) 604 105 0) 605 105 0) := by
    have c105 : mk (msI M3 24 1 0) 105 = 4 := h3
    unfold K_X3_clear
    rw [ifT c105, nm_eq, mk_msI, ifT c105, nm_eq]
  have e : kRs rsL M = msI (msI (msI (msI (msI (msI (msI (msI (msI (msI M 31 1 0) 32 1 0) 15 1 0) 16 1 0) 17 1 0) 18 1 0) 35 1 0) 37 1 0) 39 1 0) 41 1 0 := rfl
  rw [e] at h1
  unfold K_X0_flatten
  simp only [nm_eq, h1, h2, ec, h4, h5, ob_some, obS_inl]
  rfl
end HEAD2
