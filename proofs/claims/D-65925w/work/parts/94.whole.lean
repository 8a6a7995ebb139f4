set_option maxRecDepth 100000
def LBall : Prop := ∃ Inv : Nat → CM → TS → Prop, LBK Inv ∧ ∀ k, k ≤ 1506678 → Inv 0 (M03 k) σ0
