/-! Layer B: getters over setters -/
set_option maxRecDepth 100000
theorem tI_tsI (σ : TS) (k : Nat) (v : Int32) (j : Nat) : tI (tsI σ k v) j = if j = k then v else tI σ j := rfl
theorem tL_tsI (σ : TS) (k : Nat) (v : Int32) (j : Nat) : tL (tsI σ k v) j = tL σ j := rfl
theorem tA_tsI (σ : TS) (k : Nat) (v : Int32) (j x : Nat) : tA (tsI σ k v) j x = tA σ j x := rfl
theorem tB_tsI (σ : TS) (k : Nat) (v : Int32) (j x : Nat) : tB (tsI σ k v) j x = tB σ j x := rfl
theorem tI_tsL (σ : TS) (k : Nat) (v : Int64) (j : Nat) : tI (tsL σ k v) j = tI σ j := rfl
theorem tL_tsL (σ : TS) (k : Nat) (v : Int64) (j : Nat) : tL (tsL σ k v) j = if j = k then v else tL σ j := rfl
theorem tA_tsL (σ : TS) (k : Nat) (v : Int64) (j x : Nat) : tA (tsL σ k v) j x = tA σ j x := rfl
theorem tB_tsL (σ : TS) (k : Nat) (v : Int64) (j x : Nat) : tB (tsL σ k v) j x = tB σ j x := rfl
theorem tI_tsA (σ : TS) (k i : Nat) (v : Int32) (j : Nat) : tI (tsA σ k i v) j = tI σ j := rfl
theorem tL_tsA (σ : TS) (k i : Nat) (v : Int32) (j : Nat) : tL (tsA σ k i v) j = tL σ j := rfl
theorem tA_tsA (σ : TS) (k i : Nat) (v : Int32) (j x : Nat) : tA (tsA σ k i v) j x = if j = k ∧ x = i then v else tA σ j x := rfl
theorem tB_tsA (σ : TS) (k i : Nat) (v : Int32) (j x : Nat) : tB (tsA σ k i v) j x = tB σ j x := rfl
theorem tI_tsB (σ : TS) (k i : Nat) (v : Int64) (j : Nat) : tI (tsB σ k i v) j = tI σ j := rfl
theorem tL_tsB (σ : TS) (k i : Nat) (v : Int64) (j : Nat) : tL (tsB σ k i v) j = tL σ j := rfl
theorem tA_tsB (σ : TS) (k i : Nat) (v : Int64) (j x : Nat) : tA (tsB σ k i v) j x = tA σ j x := rfl
theorem tB_tsB (σ : TS) (k i : Nat) (v : Int64) (j x : Nat) : tB (tsB σ k i v) j x = if j = k ∧ x = i then v else tB σ j x := rfl
theorem mI_msI (M : CM) (g o : Nat) (v : Int32) (h x : Nat) : mI (msI M g o v) h x = if h = g ∧ x = o then v else mI M h x := rfl
theorem mR_msI (M : CM) (g o : Nat) (v : Int32) (h x : Nat) : mR (msI M g o v) h x = mR M h x := rfl
theorem mA_msI (M : CM) (g o : Nat) (v : Int32) (b j : Nat) : mA (msI M g o v) b j = mA M b j := rfl
theorem mL_msI (M : CM) (g o : Nat) (v : Int32) (b j : Nat) : mL (msI M g o v) b j = mL M b j := rfl
theorem mX_msI (M : CM) (g o : Nat) (v : Int32) (b j : Nat) : mX (msI M g o v) b j = mX M b j := rfl
theorem mk_msI (M : CM) (g o : Nat) (v : Int32) (x : Nat) : mk (msI M g o v) x = mk M x := rfl
theorem ml_msI (M : CM) (g o : Nat) (v : Int32) (x : Nat) : ml (msI M g o v) x = ml M x := rfl
theorem mn_msI (M : CM) (g o : Nat) (v : Int32) : mn (msI M g o v)  = mn M  := rfl
theorem ms_msI (M : CM) (g o : Nat) (v : Int32) : ms (msI M g o v)  = ms M  := rfl
theorem mI_msR (M : CM) (g o : Nat) (v : Nat) (h x : Nat) : mI (msR M g o v) h x = mI M h x := rfl
theorem mR_msR (M : CM) (g o : Nat) (v : Nat) (h x : Nat) : mR (msR M g o v) h x = if h = g ∧ x = o then v else mR M h x := rfl
theorem mA_msR (M : CM) (g o : Nat) (v : Nat) (b j : Nat) : mA (msR M g o v) b j = mA M b j := rfl
theorem mL_msR (M : CM) (g o : Nat) (v : Nat) (b j : Nat) : mL (msR M g o v) b j = mL M b j := rfl
theorem mX_msR (M : CM) (g o : Nat) (v : Nat) (b j : Nat) : mX (msR M g o v) b j = mX M b j := rfl
theorem mk_msR (M : CM) (g o : Nat) (v : Nat) (x : Nat) : mk (msR M g o v) x = mk M x := rfl
theorem ml_msR (M : CM) (g o : Nat) (v : Nat) (x : Nat) : ml (msR M g o v) x = ml M x := rfl
theorem mn_msR (M : CM) (g o : Nat) (v : Nat) : mn (msR M g o v)  = mn M  := rfl
theorem ms_msR (M : CM) (g o : Nat) (v : Nat) : ms (msR M g o v)  = ms M  := rfl
theorem mI_mwA (M : CM) (a i : Nat) (v : Int32) (h x : Nat) : mI (mwA M a i v) h x = mI M h x := rfl
theorem mR_mwA (M : CM) (a i : Nat) (v : Int32) (h x : Nat) : mR (mwA M a i v) h x = mR M h x := rfl
theorem mA_mwA (M : CM) (a i : Nat) (v : Int32) (b j : Nat) : mA (mwA M a i v) b j = if b = a ∧ j = i then v else mA M b j := rfl
theorem mL_mwA (M : CM) (a i : Nat) (v : Int32) (b j : Nat) : mL (mwA M a i v) b j = mL M b j := rfl
theorem mX_mwA (M : CM) (a i : Nat) (v : Int32) (b j : Nat) : mX (mwA M a i v) b j = mX M b j := rfl
theorem mk_mwA (M : CM) (a i : Nat) (v : Int32) (x : Nat) : mk (mwA M a i v) x = mk M x := rfl
theorem ml_mwA (M : CM) (a i : Nat) (v : Int32) (x : Nat) : ml (mwA M a i v) x = ml M x := rfl
theorem mn_mwA (M : CM) (a i : Nat) (v : Int32) : mn (mwA M a i v)  = mn M  := rfl
theorem ms_mwA (M : CM) (a i : Nat) (v : Int32) : ms (mwA M a i v)  = ms M  := rfl
theorem mI_mwL (M : CM) (a i : Nat) (v : Int64) (h x : Nat) : mI (mwL M a i v) h x = mI M h x := rfl
theorem mR_mwL (M : CM) (a i : Nat) (v : Int64) (h x : Nat) : mR (mwL M a i v) h x = mR M h x := rfl
theorem mA_mwL (M : CM) (a i : Nat) (v : Int64) (b j : Nat) : mA (mwL M a i v) b j = mA M b j := rfl
theorem mL_mwL (M : CM) (a i : Nat) (v : Int64) (b j : Nat) : mL (mwL M a i v) b j = if b = a ∧ j = i then v else mL M b j := rfl
theorem mX_mwL (M : CM) (a i : Nat) (v : Int64) (b j : Nat) : mX (mwL M a i v) b j = mX M b j := rfl
theorem mk_mwL (M : CM) (a i : Nat) (v : Int64) (x : Nat) : mk (mwL M a i v) x = mk M x := rfl
theorem ml_mwL (M : CM) (a i : Nat) (v : Int64) (x : Nat) : ml (mwL M a i v) x = ml M x := rfl
theorem mn_mwL (M : CM) (a i : Nat) (v : Int64) : mn (mwL M a i v)  = mn M  := rfl
theorem ms_mwL (M : CM) (a i : Nat) (v : Int64) : ms (mwL M a i v)  = ms M  := rfl
theorem mI_mwX (M : CM) (a i : Nat) (v : Nat) (h x : Nat) : mI (mwX M a i v) h x = mI M h x := rfl
theorem mR_mwX (M : CM) (a i : Nat) (v : Nat) (h x : Nat) : mR (mwX M a i v) h x = mR M h x := rfl
theorem mA_mwX (M : CM) (a i : Nat) (v : Nat) (b j : Nat) : mA (mwX M a i v) b j = mA M b j := rfl
theorem mL_mwX (M : CM) (a i : Nat) (v : Nat) (b j : Nat) : mL (mwX M a i v) b j = mL M b j := rfl
theorem mX_mwX (M : CM) (a i : Nat) (v : Nat) (b j : Nat) : mX (mwX M a i v) b j = if b = a ∧ j = i then v else mX M b j := rfl
theorem mk_mwX (M : CM) (a i : Nat) (v : Nat) (x : Nat) : mk (mwX M a i v) x = mk M x := rfl
theorem ml_mwX (M : CM) (a i : Nat) (v : Nat) (x : Nat) : ml (mwX M a i v) x = ml M x := rfl
theorem mn_mwX (M : CM) (a i : Nat) (v : Nat) : mn (mwX M a i v)  = mn M  := rfl
theorem ms_mwX (M : CM) (a i : Nat) (v : Nat) : ms (mwX M a i v)  = ms M  := rfl
theorem mI_mcA (M : CM) (sr sp d dp n : Nat) (h x : Nat) : mI (mcA M sr sp d dp n) h x = mI M h x := rfl
theorem mR_mcA (M : CM) (sr sp d dp n : Nat) (h x : Nat) : mR (mcA M sr sp d dp n) h x = mR M h x := rfl
theorem mA_mcA (M : CM) (sr sp d dp n : Nat) (b j : Nat) : mA (mcA M sr sp d dp n) b j = if b = d ∧ dp ≤ j ∧ j < dp + n then mA M sr (sp + (j - dp)) else mA M b j := rfl
theorem mL_mcA (M : CM) (sr sp d dp n : Nat) (b j : Nat) : mL (mcA M sr sp d dp n) b j = mL M b j := rfl
theorem mX_mcA (M : CM) (sr sp d dp n : Nat) (b j : Nat) : mX (mcA M sr sp d dp n) b j = mX M b j := rfl
theorem mk_mcA (M : CM) (sr sp d dp n : Nat) (x : Nat) : mk (mcA M sr sp d dp n) x = mk M x := rfl
theorem ml_mcA (M : CM) (sr sp d dp n : Nat) (x : Nat) : ml (mcA M sr sp d dp n) x = ml M x := rfl
theorem mn_mcA (M : CM) (sr sp d dp n : Nat) : mn (mcA M sr sp d dp n)  = mn M  := rfl
theorem ms_mcA (M : CM) (sr sp d dp n : Nat) : ms (mcA M sr sp d dp n)  = ms M  := rfl
theorem mI_mcL (M : CM) (sr sp d dp n : Nat) (h x : Nat) : mI (mcL M sr sp d dp n) h x = mI M h x := rfl
theorem mR_mcL (M : CM) (sr sp d dp n : Nat) (h x : Nat) : mR (mcL M sr sp d dp n) h x = mR M h x := rfl
theorem mA_mcL (M : CM) (sr sp d dp n : Nat) (b j : Nat) : mA (mcL M sr sp d dp n) b j = mA M b j := rfl
theorem mL_mcL (M : CM) (sr sp d dp n : Nat) (b j : Nat) : mL (mcL M sr sp d dp n) b j = if b = d ∧ dp ≤ j ∧ j < dp + n then mL M sr (sp + (j - dp)) else mL M b j := rfl
theorem mX_mcL (M : CM) (sr sp d dp n : Nat) (b j : Nat) : mX (mcL M sr sp d dp n) b j = mX M b j := rfl
theorem mk_mcL (M : CM) (sr sp d dp n : Nat) (x : Nat) : mk (mcL M sr sp d dp n) x = mk M x := rfl
theorem ml_mcL (M : CM) (sr sp d dp n : Nat) (x : Nat) : ml (mcL M sr sp d dp n) x = ml M x := rfl
theorem mn_mcL (M : CM) (sr sp d dp n : Nat) : mn (mcL M sr sp d dp n)  = mn M  := rfl
theorem ms_mcL (M : CM) (sr sp d dp n : Nat) : ms (mcL M sr sp d dp n)  = ms M  := rfl
theorem mI_mcX (M : CM) (sr sp d dp n : Nat) (h x : Nat) : mI (mcX M sr sp d dp n) h x = mI M h x := rfl
theorem mR_mcX (M : CM) (sr sp d dp n : Nat) (h x : Nat) : mR (mcX M sr sp d dp n) h x = mR M h x := rfl
theorem mA_mcX (M : CM) (sr sp d dp n : Nat) (b j : Nat) : mA (mcX M sr sp d dp n) b j = mA M b j := rfl
theorem mL_mcX (M : CM) (sr sp d dp n : Nat) (b j : Nat) : mL (mcX M sr sp d dp n) b j = mL M b j := rfl
theorem mX_mcX (M : CM) (sr sp d dp n : Nat) (b j : Nat) : mX (mcX M sr sp d dp n) b j = if b = d ∧ dp ≤ j ∧ j < dp + n then mX M sr (sp + (j - dp)) else mX M b j := rfl
theorem mk_mcX (M : CM) (sr sp d dp n : Nat) (x : Nat) : mk (mcX M sr sp d dp n) x = mk M x := rfl
theorem ml_mcX (M : CM) (sr sp d dp n : Nat) (x : Nat) : ml (mcX M sr sp d dp n) x = ml M x := rfl
theorem mn_mcX (M : CM) (sr sp d dp n : Nat) : mn (mcX M sr sp d dp n)  = mn M  := rfl
theorem ms_mcX (M : CM) (sr sp d dp n : Nat) : ms (mcX M sr sp d dp n)  = ms M  := rfl
theorem mI_mnew (M : CM) (c len N : Nat) (h x : Nat) : mI (mnew M c len N) h x = if x = mn M then 0 else mI M h x := rfl
theorem mR_mnew (M : CM) (c len N : Nat) (h x : Nat) : mR (mnew M c len N) h x = if x = mn M then 0 else mR M h x := rfl
theorem mA_mnew (M : CM) (c len N : Nat) (b j : Nat) : mA (mnew M c len N) b j = if b = mn M then 0 else mA M b j := rfl
theorem mL_mnew (M : CM) (c len N : Nat) (b j : Nat) : mL (mnew M c len N) b j = if b = mn M then 0 else mL M b j := rfl
theorem mX_mnew (M : CM) (c len N : Nat) (b j : Nat) : mX (mnew M c len N) b j = if b = mn M then 0 else mX M b j := rfl
theorem mk_mnew (M : CM) (c len N : Nat) (x : Nat) : mk (mnew M c len N) x = if x = mn M then c else mk M x := rfl
theorem ml_mnew (M : CM) (c len N : Nat) (x : Nat) : ml (mnew M c len N) x = if x = mn M then len else ml M x := rfl
theorem mn_mnew (M : CM) (c len N : Nat) : mn (mnew M c len N)  = mn M + 1 := rfl
theorem ms_mnew (M : CM) (c len N : Nat) : ms (mnew M c len N)  = ms M + N := rfl
