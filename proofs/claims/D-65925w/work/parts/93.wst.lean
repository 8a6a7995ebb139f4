set_option maxRecDepth 100000
def M00 : CM := (fun _ _ => 0, fun _ _ => 0, fun _ _ => 0, fun _ _ => 0, fun _ _ => 0, fun _ => 0, fun _ => 0, 1, 0)
def M01 : CM := mnew M00 1 0 108
def M02 : CM := ((K_X0_init 1 M01).getD ((), M00)).2
def M03 (k : Nat) : CM := (M02.1, M02.2.1, M02.2.2.1, M02.2.2.2.1, M02.2.2.2.2.1, M02.2.2.2.2.2.1, M02.2.2.2.2.2.2.1, 327, k)
