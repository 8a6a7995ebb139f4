set_option maxRecDepth 100000
def σz : TS := (fun _ => 0, fun _ => 0, fun _ _ => 0, fun _ _ => 0)
def σk (σ : TS) : TS := (σ.1, σ.2.1, σ.2.2.1, fun j i => if j = 23 then krow i else σ.2.2.2 j i)
def σ0 : TS := tsI (tsI (tsI (tsI (tsI (tsI (σk (tsI σz 22 38)) 28 1) 34 1) 65 1) 72 1) 126 1) 224 655
