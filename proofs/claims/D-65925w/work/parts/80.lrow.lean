set_option maxRecDepth 100000
def msS (M : CM) (k : Nat) : CM := (M.1, M.2.1, M.2.2.1, M.2.2.2.1, M.2.2.2.2.1, M.2.2.2.2.2.1, M.2.2.2.2.2.2.1, M.2.2.2.2.2.2.2.1, k)
