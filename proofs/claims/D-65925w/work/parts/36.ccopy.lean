set_option maxRecDepth 100000
abbrev goodRef (M : CM) (o : Nat) : Prop := o = 0 ∨ (mk M o ≠ 0 ∧ mk M o ≤ 24) ∨ (oldB ≤ o ∧ o < oldB + 256)
def goodRefs (M : CM) (a sp n : Nat) : Bool := (List.range n).all fun i => decide (goodRef M (mX M a (sp + i)))
