set_option maxRecDepth 100000
def sVal (M : CM) (o : Nat) : Nat := if 2199023255552 ≤ o then o + 6597069766656 else mR M 4600 o
abbrev isStr (M : CM) (o : Nat) : Prop := (2199023255552 ≤ o ∧ o < 2199023255552 + csN) ∨ (mk M o = 24 ∧ mk M (mR M 4600 o) = 51 ∧ mI M 4601 o = 0)
abbrev isBA (M : CM) (a : Nat) : Prop := (8796093022208 ≤ a ∧ a < 8796093022208 + csN) ∨ mk M a = 51
abbrev isOldBA (a : Nat) : Prop := 8796093022208 ≤ a ∧ a < 8796093022208 + csN
def bLen (M : CM) (a : Nat) : Nat := if 8796093022208 ≤ a then (csB_.getD (a - 8796093022208) []).length else ml M a
def bAt (M : CM) (a i : Nat) : Int32 := if 8796093022208 ≤ a then (csB_.getD (a - 8796093022208) []).getD i 0 else mA M a i
def sLen (M : CM) (o : Nat) : Nat := bLen M (sVal M o)
def sChr (M : CM) (o i : Nat) : Int32 := bAt M (sVal M o) i &&& 255
def mcS (M : CM) (src sp dst dp n : Nat) : CM := (M.1, M.2.1, fun b j => if b = dst ∧ dp ≤ j ∧ j < dp + n then bAt M src (sp + (j - dp)) else M.2.2.1 b j, M.2.2.2)
abbrev isBox (M : CM) (o : Nat) : Prop := mk M o = 23 ∨ (1099511627776 ≤ o ∧ o < 1099511628032)
def iVal (M : CM) (o : Nat) : Int32 := if 1099511627776 ≤ o then nI (o - 1099511627776) - 128 else mI M 4400 o
