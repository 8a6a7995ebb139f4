/-! Layer B: equations: where none can stand -/
set_option maxRecDepth 100000
section STOP
variable {C : PC} {M : CM} {σ σ' : TS} {i dep c s n : Nat}
/-- no expression begins here: the twin stops at once -/
theorem t_fac_stop {d : Nat} (hs : F_cantStand σ = some ((), σ')) (h0 : tI σ 0 = 0) (h39 : tI σ 39 = 0) (h2 : ¬ tI σ 11 = 2) (h3 : ¬ tI σ 11 = 3) (hk : tI σ 11 = 1 → F_isKey σ = some (1, σ) ∧ tL σ 16 = 2003330414) : (G_ands (d + 3)).2.2.2.2.1 σ = some (0, σ') := by
  show B_factor (G_ands (d + 2)).2.2.2.1 (B_opened (G_ands (d + 1)).2.2.2.1) (B_call (G_ands (d + 1)).2.2.2.1) σ = _
  unfold B_factor
  rw [t_isBad0 h0, ob_some, ifT (rfl : (0 : Int32) = 0), ifF h2, t_isSign0 40 h3, ob_some, ifT (rfl : (0 : Int32) = 0)]
  by_cases h1 : tI σ 11 = 1
  · obtain ⟨k1, k2⟩ := hk h1
    have w : ∀ c : Int64, c ≠ 2003330414 → F_isWord c σ = some (0, σ) := fun c hc => t_isWord0 c (fun z => hc (z.2.symm.trans k2))
    rw [ifT h1, w 6382195 (by decide), ob_some, ifT (rfl : (0 : Int32) = 0), w 1936814708 (by decide), ob_some, ifT (rfl : (0 : Int32) = 0), w 1936287598 (by decide), ob_some, ifT (rfl : (0 : Int32) = 0), w 439905906546 (by decide), ob_some, ifT (rfl : (0 : Int32) = 0), w 7170414 (by decide), ob_some, ifT (rfl : (0 : Int32) = 0), w 7168376 (by decide), ob_some, ifT (rfl : (0 : Int32) = 0), ifT h39, w 1953066341 (by decide), ob_some, ifT (rfl : (0 : Int32) = 0)]
    unfold J_factor_227
    rw [ifT h39, w 6579570 (by decide), ob_some, ifT (rfl : (0 : Int32) = 0), w 7369317 (by decide), ob_some, ifT (rfl : (0 : Int32) = 0)]
    unfold J_factor_330
    rw [k1, ob_some, ifF (show ¬ (1 : Int32) = 0 from by decide), hs, ob_some]
  · rw [ifF h1, hs, ob_some]
theorem t_expr_stop (hs : F_cantStand σ = some ((), σ')) (hb : tI σ' 0 ≠ 0) (h0 : tI σ 0 = 0) (h39 : tI σ 39 = 0) (h2 : ¬ tI σ 11 = 2) (h3 : ¬ tI σ 11 = 3) (hk : tI σ 11 = 1 → F_isKey σ = some (1, σ) ∧ tL σ 16 = 2003330414) : F_expression σ = some (0, σ') := by
  have hf : (G_ands 797).2.2.2.2.1 σ = some (0, σ') := t_fac_stop (d := 794) hs h0 h39 h2 h3 hk
  have ht : (G_ands 798).2.2.2.2.2.2.2.1 σ = some (0, σ') := by
    show B_term (G_ands 797).2.2.2.2.1 σ = _
    unfold B_term
    rw [hf, ob_some, show FU = (FU - 1) + 1 from rfl, L_term_5, t_isBad1 hb, ob_some, ifF (show ¬ (1 : Int32) = 0 from by decide), ob_some]
  have hsum : (G_ands 799).2.2.2.2.2.2.1 σ = some (0, σ') := by
    show B_sum (G_ands 798).2.2.2.2.2.2.2.1 σ = _
    unfold B_sum J_sum_24
    rw [t_isBad0 h0, ob_some, ifT (rfl : (0 : Int32) = 0), t_isSign0 45 h3, ob_some, ifT (rfl : (0 : Int32) = 0), ht, ob_some, ifT (rfl : (0 : Int32) = 0), show FU = (FU - 1) + 1 from rfl, L_sum_43, t_isBad1 hb, ob_some, ifF (show ¬ (1 : Int32) = 0 from by decide), ob_some]
  show B_expression (G_ands 799).2.2.1 (G_ands 799).2.2.2.1 (G_ands 799).2.2.2.2.2.2.1 σ = _
  unfold B_expression
  rw [t_isBad0 h0, ob_some, ifT (rfl : (0 : Int32) = 0), t_isWord0 26982 (fun z => by rw [(hk z.1).2] at z; exact absurd z.2 (by decide)), ob_some, ifT (rfl : (0 : Int32) = 0), hsum, ob_some]
end STOP
