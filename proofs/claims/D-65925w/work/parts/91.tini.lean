set_option maxRecDepth 100000
def kw0 : Option (Int32 × (Nat → Int64)) := kwL 300 0 0 0 0 (fun _ => 0)
def krow : Nat → Int64 := (kw0.getD (0, fun _ => 0)).2
