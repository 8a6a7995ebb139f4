set_option maxRecDepth 100000
def alen (M : CM) (a : Nat) : Int32 := if a = othB then 0 else nI (ml M a)
abbrev okCopy (M : CM) (a0 : Nat) (sp : Int32) (a : Nat) (dp n : Int32) : Prop := mk M a = 55 ∧ ¬ sp < 0 ∧ ¬ dp < 0 ∧ ¬ n < 0 ∧ ix dp + ix n ≤ ml M a ∧ ((a0 = othB ∧ ix n = 0 ∧ ix sp = 0) ∨ (mk M a0 = 55 ∧ ix sp + ix n ≤ ml M a0 ∧ goodRefs M a0 (ix sp) (ix n) = true))
