set_option maxRecDepth 100000
def KJ_X18_set_106 (x0 : Nat) (x5 : Nat) (y0 : Nat) (y1 : Int32) (M : CM) : Option (Nat × CM) :=
  if mk M y0 = 18 then
  nm (msI M 3404 y0 y1) fun M22 =>
  if x5 = 0 then
    if mk M22 x0 = 18 then
    if mk M22 x0 = 18 then
    nm (msI M22 3404 x0 (mI M22 3404 x0)) fun M25 =>
    some (x0, M25)
    else none
    else none
  else
    if mk M22 x5 = 18 then
    if mk M22 x0 = 18 then
    if mI M22 3404 x5 < mI M22 3404 x0 then
      if mk M22 x0 = 18 then
      if mk M22 x0 = 18 then
      nm (msI M22 3404 x0 (mI M22 3404 x0)) fun M30 =>
      some (x0, M30)
      else none
      else none
    else
      if mk M22 x5 = 18 then
      if mk M22 x0 = 18 then
      nm (msI M22 3404 x0 ((mI M22 3404 x5) + 1)) fun M33 =>
      some (x0, M33)
      else none
      else none
    else none
    else none
  else none
def KJ_X18_set_102 (x0 : Nat) (x5 : Nat) (y0 : Nat) (M : CM) : Option (Nat × CM) :=
  if mk M x0 = 18 then
  KJ_X18_set_106 x0 x5 y0 (mI M 3404 x0) M
  else none
def KJ_X18_set_71 (x0 : Nat) (x4 : Nat) (x5 : Nat) (y0 : Nat) (y1 : Int32) (M : CM) : Option (Nat × CM) :=
  if mk M y0 = 18 then
  nm (msI M 3404 y0 y1) fun M19 =>
  if x4 = 0 then
    KJ_X18_set_102 x0 x5 x0 M19
  else
    if mk M19 x4 = 18 then
    if mk M19 x0 = 18 then
    if mI M19 3404 x4 < mI M19 3404 x0 then
      KJ_X18_set_102 x0 x5 x0 M19
    else
      if mk M19 x4 = 18 then
      KJ_X18_set_106 x0 x5 x0 ((mI M19 3404 x4) + 1) M19
      else none
    else none
    else none
  else none
def KJ_X18_set_67 (x0 : Nat) (x4 : Nat) (x5 : Nat) (y0 : Nat) (M : CM) : Option (Nat × CM) :=
  if mk M x0 = 18 then
  KJ_X18_set_71 x0 x4 x5 y0 (mI M 3404 x0) M
  else none
def K_X18_set (x0 : Nat) (x1 : Int32) (x2 : Int32) (x3 : Nat) (x4 : Nat) (x5 : Nat) (M : CM) : Option (Nat × CM) :=
  if mk M x0 = 18 then
  nm (msI M 3400 x0 x1) fun M2 =>
  if mk M2 x0 = 18 then
  nm (msI M2 3401 x0 x2) fun M4 =>
  if mk M4 x0 = 18 then
  nm (msI M4 3402 x0 0) fun M6 =>
  if mk M6 x0 = 18 then
  nm (msI M6 3403 x0 (-1)) fun M8 =>
  if mk M8 x0 = 18 then
  nm (msR M8 3405 x0 x3) fun M10 =>
  if mk M10 x0 = 18 then
  nm (msR M10 3406 x0 x4) fun M12 =>
  if mk M12 x0 = 18 then
  nm (msR M12 3407 x0 x5) fun M14 =>
  if mk M14 x0 = 18 then
  nm (msI M14 3404 x0 1) fun M16 =>
  if x3 = 0 then
    KJ_X18_set_67 x0 x4 x5 x0 M16
  else
    if mk M16 x3 = 18 then
    if mk M16 x0 = 18 then
    if mI M16 3404 x3 < mI M16 3404 x0 then
      KJ_X18_set_67 x0 x4 x5 x0 M16
    else
      if mk M16 x3 = 18 then
      KJ_X18_set_71 x0 x4 x5 x0 ((mI M16 3404 x3) + 1) M16
      else none
    else none
    else none
  else none
  else none
  else none
  else none
  else none
  else none
  else none
  else none
def KJ_X3_make_52 (x0 : Nat) (x1 : Int32) (x2 : Int32) (x3 : Nat) (x4 : Nat) (x5 : Nat) (M : CM) : Option ((Nat ⊕ Nat) × CM) :=
  if mk M x0 = 4 then
  if mk M x0 = 4 then
  nm (msI M 604 x0 ((mI M 604 x0) + 1)) fun M12 =>
  if mk M12 x0 = 4 then
  if mk M12 x0 = 4 then
  if mk M12 (mR M12 600 x0) = 22 then
  ob (K_J2_get (mR M12 600 x0) ((mI M12 604 x0) - 1) M12) fun r17 M16 =>
  if r17 = 0 ∨ mk M16 r17 = 18 then
  if mk M16 r17 = 18 then
  ob (K_X18_set r17 x1 x2 x3 x4 x5 M16) fun r23 M22 =>
  if mk M22 r23 = 18 then
  if mk M22 x0 = 4 then
  if mI M22 3404 r23 ≤ mI M22 602 x0 then
    some (.inl r23, M22)
  else
    if mk M22 x0 = 4 then
    if mk M22 x0 = 4 then
    ob (K_X0_wrong (mI M22 603 x0) (mI M22 605 x0) M22) fun r31 M30 =>
    if mk M30 r31 = 7 then
    some (.inr r31, M30)
    else none
    else none
    else none
  else none
  else none
  else none
  else none
  else none
  else none
  else none
  else none
  else none
def K_X3_make (x0 : Nat) (x1 : Int32) (x2 : Int32) (x3 : Nat) (x4 : Nat) (x5 : Nat) (M : CM) : Option ((Nat ⊕ Nat) × CM) :=
  if mk M x0 = 4 then
  if mk M x0 = 4 then
  if mI M 604 x0 = mI M 601 x0 then
    if mk M x0 = 4 then
    if mk M x0 = 4 then
    ob (K_X0_wrong (mI M 603 x0) (mI M 605 x0) M) fun r54 M53 =>
    if mk M53 r54 = 7 then
    some (.inr r54, M53)
    else none
    else none
    else none
  else
    if mk M x0 = 4 then
    if mk M x0 = 4 then
    if mk M (mR M 600 x0) = 22 then
    ob (K_J2_size (mR M 600 x0) M) fun r7 M6 =>
    if mI M 604 x0 = r7 then
      if mk M6 x0 = 4 then
      if mn M6 ≤ 601024 ∧ ms M6 + 8 ≤ 7293034 then
      nm (mn M6) fun v38 =>
      nm (mnew M6 18 0 8) fun M39 =>
      if ¬ v38 = 0 then
      ob (K_X18_init v38 M39) fun r42 M41 =>
      if mk M41 (mR M6 600 x0) = 22 then
      ob (K_J2_add (mR M6 600 x0) v38 M41) fun r47 M46 =>
      KJ_X3_make_52 x0 x1 x2 x3 x4 x5 M46
      else none
      else none
      else none
      else none
    else
      KJ_X3_make_52 x0 x1 x2 x3 x4 x5 M6
    else none
    else none
    else none
  else none
  else none
def K_X3_number (x0 : Nat) (x1 : Int32) (M : CM) : Option ((Nat ⊕ Nat) × CM) :=
  if mk M x0 = 4 then
  obS (K_X3_make x0 0 x1 0 0 0 M) (fun w6 M2 =>
      some (.inr w6, M2))
  fun r3 M2 =>
  some (.inl r3, M2)
  else none
def K_X0_free (x1 : Int32) (M : CM) : Option ((Unit ⊕ Nat) × CM) :=
  if x1 = 1 then
    ob (K_X0_wrong 28 0 M) fun r2 M1 =>
    if mk M1 r2 = 7 then
    some (.inr r2, M1)
    else none
  else
    some (.inl (), M)
def K_X3_make_2 (x0 : Nat) (x1 : Int32) (x2 : Nat) (x3 : Nat) (M : CM) : Option ((Nat ⊕ Nat) × CM) :=
  if mk M x0 = 4 then
  obS (K_X3_make x0 x1 0 x2 x3 0 M) (fun w6 M2 =>
      some (.inr w6, M2))
  fun r3 M2 =>
  some (.inl r3, M2)
  else none
def KL_X0_numberOf_2 : Nat → Nat → Int32 → CM → Option ((Unit ⊕ Int32) × CM)
  | 0, _, _, _ => none
  | n + 1, x1, x2, M =>
    if mI M 15 1 ≤ x2 then
      some (.inl (), M)
    else
      ob (K_J2_get 98 x2 M) fun r2 M1 =>
      if r2 ≤ 1099511627775 ∧ x1 ≤ 1099511627775 then
      if r2 = x1 then
        some (.inr x2, M1)
      else
        nm (x2 + 1) fun v6 =>
        KL_X0_numberOf_2 n x1 v6 M1
      else none
def K_X0_numberOf (x1 : Nat) (M : CM) : Option (Int32 × CM) :=
  obS (KL_X0_numberOf_2 FU x1 0 M) (fun r13 M10 => some (r13, M10)) fun q9 M10 =>
  some ((-1), M10)
def K_X0_varOf (x1 : Nat) (x2 : Nat) (M : CM) : Option ((Int32 ⊕ Nat) × CM) :=
  if mk M x2 = 8 then
  obS (K_X0_follow x1 (mR M 1405 x2) M) (fun w6 M2 =>
      some (.inr w6, M2))
  fun r3 M2 =>
  if mR M2 20 1 = 0 then
    ob (K_X0_wrong 26 0 M2) fun r12 M11 =>
    if mk M11 r12 = 7 then
    some (.inr r12, M11)
    else none
  else
    ob (K_X0_numberOf (mR M2 20 1) M2) fun r8 M7 =>
    some (.inl r8, M7)
  else none
def K_X0_opOf (x0 : Int32) (M : CM) : Option (Int32 × CM) :=
  if x0 = 23 then
    some (26, M)
  else
  if x0 = 24 then
    some (27, M)
  else
  if x0 = 31 then
    some (8, M)
  else
  if x0 = 32 then
    some (9, M)
  else
  if x0 = 33 then
    some (10, M)
  else
  if x0 = 34 then
    some (11, M)
  else
  if x0 = 35 then
    some (12, M)
  else
  if x0 = 36 then
    some (13, M)
  else
  if x0 = 103 then
    some (3, M)
  else
  if x0 = 104 then
    some (4, M)
  else
  if x0 = 105 then
    some (5, M)
  else
  if x0 = 106 then
    some (6, M)
  else
  if x0 = 107 then
    some (7, M)
  else
  if x0 = 110 then
    some (20, M)
  else
  if x0 = 111 then
    some (21, M)
  else
  if x0 = 112 then
    some (22, M)
  else
  if x0 = 113 then
    some (23, M)
  else
  if x0 = 114 then
    some (24, M)
  else
  if x0 = 115 then
    some (25, M)
  else
  some (28, M)
def KJ_X0_flatten_3_355 (cf_X0_flatten_3 : Nat → Nat → Int32 → Int32 → Int32 → CM → Option ((Nat ⊕ Nat) × CM)) (x1 : Nat) (x6 : Int32) (M : CM) : Option ((Nat ⊕ Nat) × CM) :=
  if mk M x1 = 8 then
  if mI M 1400 x1 = 26 then
    if mk M (mR M 27 1) = 4 then
    obS (K_X3_make (mR M 27 1) 15 x6 0 0 0 M) (fun w39 M35 =>
        some (.inr w39, M35))
    fun r36 M35 =>
    some (.inl r36, M35)
    else none
  else
    if mk M (mR M 27 1) = 4 then
    obS (K_X3_make (mR M 27 1) 16 x6 0 0 0 M) (fun w33 M29 =>
        some (.inr w33, M29))
    fun r30 M29 =>
    some (.inl r30, M29)
    else none
  else none
def KJ_X0_flatten_3_511 (cf_X0_flatten_3 : Nat → Nat → Int32 → Int32 → Int32 → CM → Option ((Nat ⊕ Nat) × CM)) (x1 : Nat) (x6 : Nat) (x7 : Nat) (y0 : Nat) (M : CM) : Option ((Nat ⊕ Nat) × CM) :=
  if mk M x1 = 8 then
  if mI M 1400 x1 = 21 then
    if mk M (mR M 27 1) = 4 then
    obS (K_X3_make (mR M 27 1) 14 0 x6 x7 y0 M) (fun w243 M239 =>
        some (.inr w243, M239))
    fun r240 M239 =>
    some (.inl r240, M239)
    else none
  else
    if mk M x1 = 8 then
    ob (K_X0_opOf (mI M 1400 x1) M) fun r229 M228 =>
    if mk M228 (mR M 27 1) = 4 then
    obS (K_X3_make (mR M 27 1) r229 0 x6 x7 y0 M228) (fun w237 M233 =>
        some (.inr w237, M233))
    fun r234 M233 =>
    some (.inl r234, M233)
    else none
    else none
  else none
def KJ_X0_flatten_3_482 (cf_X0_flatten_3 : Nat → Nat → Int32 → Int32 → Int32 → CM → Option ((Nat ⊕ Nat) × CM)) (x1 : Nat) (x2 : Nat) (x3 : Int32) (x4 : Int32) (x5 : Int32) (x6 : Nat) (y0 : Nat) (M : CM) : Option ((Nat ⊕ Nat) × CM) :=
  if mk M x1 = 8 then
  if mR M 1404 x1 = 0 then
    KJ_X0_flatten_3_511 cf_X0_flatten_3 x1 x6 y0 0 M
  else
    if mk M x1 = 8 then
    obS (cf_X0_flatten_3 (mR M 1404 x1) x2 x3 x4 (x5 + 1) M) (fun w225 M221 =>
        some (.inr w225, M221))
    fun r222 M221 =>
    KJ_X0_flatten_3_511 cf_X0_flatten_3 x1 x6 y0 r222 M221
    else none
  else none
def KB_X0_flatten_3 (cf_X0_flatten_3 : Nat → Nat → Int32 → Int32 → Int32 → CM → Option ((Nat ⊕ Nat) × CM)) (x1 : Nat) (x2 : Nat) (x3 : Int32) (x4 : Int32) (x5 : Int32) (M : CM) : Option ((Nat ⊕ Nat) × CM) :=
  if x5 ≤ 100 then
    if mk M x1 = 8 then
    if mI M 1400 x1 = 26 then
      obS (K_X0_free x3 M) (fun w7 M3 =>
          some (.inr w7, M3))
      fun r4 M3 =>
      if mk M3 x1 = 8 then
      obS (K_X0_varOf x2 (mR M3 1402 x1) M3) (fun w13 M9 =>
          some (.inr w13, M9))
      fun r10 M9 =>
      ob (K_J2_get 98 r10 M9) fun r15 M14 =>
      if r15 = 0 ∨ mk M14 r15 = 17 then
      if mk M14 r15 = 17 then
      nm (mI M14 3203 r15) fun v20 =>
      if v20 = 1 then
        ob (K_X0_wrong 29 0 M14) fun r22 M21 =>
        if mk M21 r22 = 7 then
        some (.inr r22, M21)
        else none
      else
        if mk M14 x1 = 8 then
        if mI M14 1400 x1 = 26 then
          if v20 = 0 then
            KJ_X0_flatten_3_355 cf_X0_flatten_3 x1 r10 M14
          else
            ob (K_X0_wrong 29 0 M14) fun r42 M41 =>
            if mk M41 r42 = 7 then
            some (.inr r42, M41)
            else none
        else
          KJ_X0_flatten_3_355 cf_X0_flatten_3 x1 r10 M14
        else none
      else none
      else none
      else none
    else
    if mI M 1400 x1 = 27 then
      obS (K_X0_free x3 M) (fun w54 M50 =>
          some (.inr w54, M50))
      fun r51 M50 =>
      if mk M50 x1 = 8 then
      obS (K_X0_varOf x2 (mR M50 1402 x1) M50) (fun w60 M56 =>
          some (.inr w60, M56))
      fun r57 M56 =>
      ob (K_J2_get 98 r57 M56) fun r62 M61 =>
      if r62 = 0 ∨ mk M61 r62 = 17 then
      if mk M61 r62 = 17 then
      nm (mI M61 3203 r62) fun v67 =>
      if v67 = 1 then
        ob (K_X0_wrong 29 0 M61) fun r69 M68 =>
        if mk M68 r69 = 7 then
        some (.inr r69, M68)
        else none
      else
        if mk M61 x1 = 8 then
        if mI M61 1400 x1 = 26 then
          if v67 = 0 then
            KJ_X0_flatten_3_355 cf_X0_flatten_3 x1 r57 M61
          else
            ob (K_X0_wrong 29 0 M61) fun r75 M74 =>
            if mk M74 r75 = 7 then
            some (.inr r75, M74)
            else none
        else
          KJ_X0_flatten_3_355 cf_X0_flatten_3 x1 r57 M61
        else none
      else none
      else none
      else none
    else
    if mI M 1400 x1 = 29 then
      obS (K_X0_free x3 M) (fun w87 M83 =>
          some (.inr w87, M83))
      fun r84 M83 =>
      if mk M83 x1 = 8 then
      if mk M83 (mR M83 1402 x1) = 8 then
      if mk M83 (mR M83 27 1) = 4 then
      obS (K_X3_make (mR M83 27 1) 29 (mI M83 1401 (mR M83 1402 x1)) 0 0 0 M83) (fun w95 M91 =>
          some (.inr w95, M91))
      fun r92 M91 =>
      if mk M91 x1 = 8 then
      if mk M91 (mR M91 1403 x1) = 8 then
      if mk M91 r92 = 18 then
      nm (msI M91 3402 r92 (mI M91 1401 (mR M91 1403 x1))) fun M99 =>
      some (.inl r92, M99)
      else none
      else none
      else none
      else none
      else none
      else none
    else
    if mI M 1400 x1 = 30 then
      obS (K_X0_free x3 M) (fun w105 M101 =>
          some (.inr w105, M101))
      fun r102 M101 =>
      if mk M101 (mR M101 27 1) = 4 then
      obS (K_X3_make_2 (mR M101 27 1) 2 0 0 M101) (fun w111 M107 =>
          some (.inr w111, M107))
      fun r108 M107 =>
      some (.inl r108, M107)
      else none
    else
    if mI M 1400 x1 = 100 then
      if mk M x1 = 8 then
      if mk M (mR M 27 1) = 4 then
      obS (K_X3_number (mR M 27 1) (mI M 1401 x1) M) (fun w119 M115 =>
          some (.inr w119, M115))
      fun r116 M115 =>
      some (.inl r116, M115)
      else none
      else none
    else
    if mI M 1400 x1 = 101 then
      obS (K_X0_varOf x2 x1 M) (fun w125 M121 =>
          some (.inr w125, M121))
      fun r122 M121 =>
      if x3 = 1 then
        ob (K_J2_get 98 r122 M121) fun r133 M132 =>
        if r133 = 0 ∨ mk M132 r133 = 17 then
        if mk M132 r133 = 17 then
        if mI M132 3203 r133 = 1 then
          if mk M132 (mR M132 27 1) = 4 then
          obS (K_X3_make (mR M132 27 1) 1 r122 0 0 0 M132) (fun w143 M139 =>
              some (.inr w143, M139))
          fun r140 M139 =>
          some (.inl r140, M139)
          else none
        else
          ob (K_X0_wrong 28 0 M132) fun r145 M144 =>
          if mk M144 r145 = 7 then
          some (.inr r145, M144)
          else none
        else none
        else none
      else
        if mk M121 (mR M121 27 1) = 4 then
        obS (K_X3_make (mR M121 27 1) 1 r122 0 0 0 M121) (fun w131 M127 =>
            some (.inr w131, M127))
        fun r128 M127 =>
        some (.inl r128, M127)
        else none
    else
    if mI M 1400 x1 = 102 then
      if mk M x1 = 8 then
      ob (K_X0_loopValue (mI M 1401 x1) M) fun r154 M153 =>
      if mk M153 (mR M 27 1) = 4 then
      obS (K_X3_number (mR M 27 1) (r154 * 65536) M153) (fun w162 M158 =>
          some (.inr w162, M158))
      fun r159 M158 =>
      some (.inl r159, M158)
      else none
      else none
    else
    if mI M 1400 x1 = 108 then
      ob (K_J2_add 109 x1 M) fun r165 M164 =>
      ob (K_J2_size 109 M164) fun r169 M168 =>
      nm (r169 - 1) fun v172 =>
      if inb v172 101 then
      nm (mwA M168 110 (ix v172) x4) fun M174 =>
      if mk M174 x1 = 8 then
      if mk M174 (mR M174 1407 x1) = 6 then
      obS (cf_X0_flatten_3 (mR M174 1002 (mR M174 1407 x1)) x2 x3 v172 (x5 + 1) M174) (fun w181 M177 =>
          some (.inr w181, M177))
      fun r178 M177 =>
      ob (K_J2_remove 109 v172 M177) fun r183 M182 =>
      some (.inl r178, M182)
      else none
      else none
      else none
    else
    if mI M 1400 x1 = 109 then
      ob (K_J2_get 109 x4 M) fun r188 M187 =>
      if r188 = 0 ∨ mk M187 r188 = 8 then
      if mk M187 r188 = 8 then
      if mk M187 x1 = 8 then
      if mk M187 (mR M187 1406 r188) = 22 then
      ob (K_J2_get (mR M187 1406 r188) (mI M187 1401 x1) M187) fun r196 M195 =>
      if r196 = 0 ∨ mk M195 r196 = 8 then
      if inb x4 101 then
      obS (cf_X0_flatten_3 r196 x2 x3 (mA M195 110 (ix x4)) (x5 + 1) M195) (fun w205 M201 =>
          some (.inr w205, M201))
      fun r202 M201 =>
      some (.inl r202, M201)
      else none
      else none
      else none
      else none
      else none
      else none
    else
    if mk M x1 = 8 then
    obS (cf_X0_flatten_3 (mR M 1402 x1) x2 x3 x4 (x5 + 1) M) (fun w211 M207 =>
        some (.inr w211, M207))
    fun r208 M207 =>
    if mk M207 x1 = 8 then
    if mR M207 1403 x1 = 0 then
      KJ_X0_flatten_3_482 cf_X0_flatten_3 x1 x2 x3 x4 x5 r208 0 M207
    else
      if mk M207 x1 = 8 then
      obS (cf_X0_flatten_3 (mR M207 1403 x1) x2 x3 x4 (x5 + 1) M207) (fun w218 M214 =>
          some (.inr w218, M214))
      fun r215 M214 =>
      KJ_X0_flatten_3_482 cf_X0_flatten_3 x1 x2 x3 x4 x5 r208 r215 M214
      else none
    else none
    else none
    else none
  else
    ob (K_X0_wrong 24 0 M) fun r248 M247 =>
    if mk M247 r248 = 7 then
    some (.inr r248, M247)
    else none
def KG_X0_flatten_3 : Nat → (Nat → Nat → Int32 → Int32 → Int32 → CM → Option ((Nat ⊕ Nat) × CM))
  | 0 => (fun _ _ _ _ _ _ => none)
  | d + 1 => (KB_X0_flatten_3 (KG_X0_flatten_3 d))
def K_X0_flatten_3 : Nat → Nat → Int32 → Int32 → Int32 → CM → Option ((Nat ⊕ Nat) × CM) := (KG_X0_flatten_3 300)
def K_X0_flatten_2 (x1 : Nat) (x2 : Nat) (x3 : Int32) (x4 : Int32) (M : CM) : Option ((Nat ⊕ Nat) × CM) :=
  obS (K_X0_flatten_3 x1 x2 x3 x4 1 M) (fun w5 M1 =>
      some (.inr w5, M1))
  fun r2 M1 =>
  some (.inl r2, M1)
def KB_X0_fixed (cf_X0_parameter : Int32 → CM → Option ((Int32 ⊕ Nat) × CM)) (cf_X0_fixedCondition : Nat → CM → Option ((Int32 ⊕ Nat) × CM)) (cf_X0_fixed : Nat → CM → Option ((Int32 ⊕ Nat) × CM)) (x1 : Nat) (M : CM) : Option ((Int32 ⊕ Nat) × CM) :=
  if mk M x1 = 18 then
  if mI M 3400 x1 = 0 then
    if mk M x1 = 18 then
    some (.inl (mI M 3401 x1), M)
    else none
  else
  if mI M 3400 x1 = 1 then
    if mk M x1 = 18 then
    obS (cf_X0_parameter (mI M 3401 x1) M) (fun w10 M6 =>
        some (.inr w10, M6))
    fun r7 M6 =>
    some (.inl r7, M6)
    else none
  else
  if mI M 3400 x1 = 2 then
    if mk M x1 = 18 then
    obS (cf_X0_fixed (mR M 3405 x1) M) (fun w17 M13 =>
        some (.inr w17, M13))
    fun r14 M13 =>
    if mk M13 x1 = 18 then
    if mk M13 x1 = 18 then
    obS (cf_X0_fixed (mR M13 3406 x1) M13) (fun w24 M20 =>
        some (.inr w24, M20))
    fun r21 M20 =>
    obS (K_X0_two (mI M13 3400 x1) r14 r21 M20) (fun w29 M25 =>
        some (.inr w29, M25))
    fun r26 M25 =>
    some (.inl r26, M25)
    else none
    else none
    else none
  else
  if mI M 3400 x1 = 3 then
    if mk M x1 = 18 then
    obS (cf_X0_fixed (mR M 3405 x1) M) (fun w36 M32 =>
        some (.inr w36, M32))
    fun r33 M32 =>
    if mk M32 x1 = 18 then
    if mk M32 x1 = 18 then
    obS (cf_X0_fixed (mR M32 3406 x1) M32) (fun w43 M39 =>
        some (.inr w43, M39))
    fun r40 M39 =>
    obS (K_X0_two (mI M32 3400 x1) r33 r40 M39) (fun w48 M44 =>
        some (.inr w48, M44))
    fun r45 M44 =>
    some (.inl r45, M44)
    else none
    else none
    else none
  else
  if mI M 3400 x1 = 4 then
    if mk M x1 = 18 then
    obS (cf_X0_fixed (mR M 3405 x1) M) (fun w55 M51 =>
        some (.inr w55, M51))
    fun r52 M51 =>
    if mk M51 x1 = 18 then
    if mk M51 x1 = 18 then
    obS (cf_X0_fixed (mR M51 3406 x1) M51) (fun w62 M58 =>
        some (.inr w62, M58))
    fun r59 M58 =>
    obS (K_X0_two (mI M51 3400 x1) r52 r59 M58) (fun w67 M63 =>
        some (.inr w67, M63))
    fun r64 M63 =>
    some (.inl r64, M63)
    else none
    else none
    else none
  else
  if mI M 3400 x1 = 5 then
    if mk M x1 = 18 then
    obS (cf_X0_fixed (mR M 3405 x1) M) (fun w74 M70 =>
        some (.inr w74, M70))
    fun r71 M70 =>
    if mk M70 x1 = 18 then
    if mk M70 x1 = 18 then
    obS (cf_X0_fixed (mR M70 3406 x1) M70) (fun w81 M77 =>
        some (.inr w81, M77))
    fun r78 M77 =>
    obS (K_X0_two (mI M70 3400 x1) r71 r78 M77) (fun w86 M82 =>
        some (.inr w86, M82))
    fun r83 M82 =>
    some (.inl r83, M82)
    else none
    else none
    else none
  else
  if mI M 3400 x1 = 6 then
    if mk M x1 = 18 then
    obS (cf_X0_fixed (mR M 3405 x1) M) (fun w93 M89 =>
        some (.inr w93, M89))
    fun r90 M89 =>
    if mk M89 x1 = 18 then
    if mk M89 x1 = 18 then
    obS (cf_X0_fixed (mR M89 3406 x1) M89) (fun w100 M96 =>
        some (.inr w100, M96))
    fun r97 M96 =>
    obS (K_X0_two (mI M89 3400 x1) r90 r97 M96) (fun w105 M101 =>
        some (.inr w105, M101))
    fun r102 M101 =>
    some (.inl r102, M101)
    else none
    else none
    else none
  else
  if mI M 3400 x1 = 7 then
    if mk M x1 = 18 then
    if mk M x1 = 18 then
    obS (cf_X0_fixed (mR M 3405 x1) M) (fun w113 M109 =>
        some (.inr w113, M109))
    fun r110 M109 =>
    obS (K_X0_one (mI M 3400 x1) r110 M109) (fun w118 M114 =>
        some (.inr w118, M114))
    fun r115 M114 =>
    some (.inl r115, M114)
    else none
    else none
  else
  if mI M 3400 x1 = 8 then
    if mk M x1 = 18 then
    if mk M x1 = 18 then
    obS (cf_X0_fixed (mR M 3405 x1) M) (fun w126 M122 =>
        some (.inr w126, M122))
    fun r123 M122 =>
    obS (K_X0_one (mI M 3400 x1) r123 M122) (fun w131 M127 =>
        some (.inr w131, M127))
    fun r128 M127 =>
    some (.inl r128, M127)
    else none
    else none
  else
  if mI M 3400 x1 = 9 then
    if mk M x1 = 18 then
    if mk M x1 = 18 then
    obS (cf_X0_fixed (mR M 3405 x1) M) (fun w139 M135 =>
        some (.inr w139, M135))
    fun r136 M135 =>
    obS (K_X0_one (mI M 3400 x1) r136 M135) (fun w144 M140 =>
        some (.inr w144, M140))
    fun r141 M140 =>
    some (.inl r141, M140)
    else none
    else none
  else
  if mI M 3400 x1 = 10 then
    if mk M x1 = 18 then
    obS (cf_X0_fixed (mR M 3405 x1) M) (fun w151 M147 =>
        some (.inr w151, M147))
    fun r148 M147 =>
    if mk M147 x1 = 18 then
    if mk M147 x1 = 18 then
    obS (cf_X0_fixed (mR M147 3406 x1) M147) (fun w158 M154 =>
        some (.inr w158, M154))
    fun r155 M154 =>
    obS (K_X0_two (mI M147 3400 x1) r148 r155 M154) (fun w163 M159 =>
        some (.inr w163, M159))
    fun r160 M159 =>
    some (.inl r160, M159)
    else none
    else none
    else none
  else
  if mI M 3400 x1 = 11 then
    if mk M x1 = 18 then
    obS (cf_X0_fixed (mR M 3405 x1) M) (fun w170 M166 =>
        some (.inr w170, M166))
    fun r167 M166 =>
    if mk M166 x1 = 18 then
    if mk M166 x1 = 18 then
    obS (cf_X0_fixed (mR M166 3406 x1) M166) (fun w177 M173 =>
        some (.inr w177, M173))
    fun r174 M173 =>
    obS (K_X0_two (mI M166 3400 x1) r167 r174 M173) (fun w182 M178 =>
        some (.inr w182, M178))
    fun r179 M178 =>
    some (.inl r179, M178)
    else none
    else none
    else none
  else
  if mI M 3400 x1 = 12 then
    if mk M x1 = 18 then
    if mk M x1 = 18 then
    obS (cf_X0_fixed (mR M 3405 x1) M) (fun w190 M186 =>
        some (.inr w190, M186))
    fun r187 M186 =>
    obS (K_X0_one (mI M 3400 x1) r187 M186) (fun w195 M191 =>
        some (.inr w195, M191))
    fun r192 M191 =>
    some (.inl r192, M191)
    else none
    else none
  else
  if mI M 3400 x1 = 13 then
    if mk M x1 = 18 then
    if mk M x1 = 18 then
    obS (cf_X0_fixed (mR M 3405 x1) M) (fun w203 M199 =>
        some (.inr w203, M199))
    fun r200 M199 =>
    obS (K_X0_one (mI M 3400 x1) r200 M199) (fun w208 M204 =>
        some (.inr w208, M204))
    fun r205 M204 =>
    some (.inl r205, M204)
    else none
    else none
  else
  if mI M 3400 x1 = 14 then
    if mk M x1 = 18 then
    obS (cf_X0_fixedCondition (mR M 3405 x1) M) (fun w215 M211 =>
        some (.inr w215, M211))
    fun r212 M211 =>
    if r212 = 0 then
      if mk M211 x1 = 18 then
      obS (cf_X0_fixed (mR M211 3407 x1) M211) (fun w221 M217 =>
          some (.inr w221, M217))
      fun r218 M217 =>
      some (.inl r218, M217)
      else none
    else
      if mk M211 x1 = 18 then
      obS (cf_X0_fixed (mR M211 3406 x1) M211) (fun w227 M223 =>
          some (.inr w227, M223))
      fun r224 M223 =>
      some (.inl r224, M223)
      else none
    else none
  else
  if mk M x1 = 18 then
  obS (cf_X0_fixed (mR M 3405 x1) M) (fun w234 M230 =>
      some (.inr w234, M230))
  fun r231 M230 =>
  if mk M230 x1 = 18 then
  if mk M230 x1 = 18 then
  obS (cf_X0_fixed (mR M230 3406 x1) M230) (fun w241 M237 =>
      some (.inr w241, M237))
  fun r238 M237 =>
  obS (K_X0_two (mI M230 3400 x1) r231 r238 M237) (fun w246 M242 =>
      some (.inr w246, M242))
  fun r243 M242 =>
  some (.inl r243, M242)
  else none
  else none
  else none
  else none
def KB_X0_fixedCondition (cf_X0_fixedCondition : Nat → CM → Option ((Int32 ⊕ Nat) × CM)) (cf_X0_fixed : Nat → CM → Option ((Int32 ⊕ Nat) × CM)) (x1 : Nat) (M : CM) : Option ((Int32 ⊕ Nat) × CM) :=
  if mk M x1 = 18 then
  if mI M 3400 x1 = 26 then
    if mk M x1 = 18 then
    obS (cf_X0_fixedCondition (mR M 3405 x1) M) (fun w8 M4 =>
        some (.inr w8, M4))
    fun r5 M4 =>
    if mk M4 x1 = 18 then
    obS (cf_X0_fixedCondition (mR M4 3406 x1) M4) (fun w14 M10 =>
        some (.inr w14, M10))
    fun r11 M10 =>
    if r11 = 0 then
      some (.inl 0, M10)
    else
      if r5 = 0 then
        some (.inl 0, M10)
      else
        some (.inl 1, M10)
    else none
    else none
  else
  if mI M 3400 x1 = 27 then
    if mk M x1 = 18 then
    obS (cf_X0_fixedCondition (mR M 3405 x1) M) (fun w23 M19 =>
        some (.inr w23, M19))
    fun r20 M19 =>
    if mk M19 x1 = 18 then
    obS (cf_X0_fixedCondition (mR M19 3406 x1) M19) (fun w29 M25 =>
        some (.inr w29, M25))
    fun r26 M25 =>
    if r26 = 0 then
      if r20 = 0 then
        some (.inl 0, M25)
      else
        some (.inl 1, M25)
    else
      some (.inl 1, M25)
    else none
    else none
  else
  if mI M 3400 x1 = 28 then
    if mk M x1 = 18 then
    obS (cf_X0_fixedCondition (mR M 3405 x1) M) (fun w38 M34 =>
        some (.inr w38, M34))
    fun r35 M34 =>
    if r35 = 0 then
      some (.inl 1, M34)
    else
      some (.inl 0, M34)
    else none
  else
  if mk M x1 = 18 then
  obS (cf_X0_fixed (mR M 3405 x1) M) (fun w45 M41 =>
      some (.inr w45, M41))
  fun r42 M41 =>
  if mk M41 x1 = 18 then
  if mk M41 x1 = 18 then
  obS (cf_X0_fixed (mR M41 3406 x1) M41) (fun w52 M48 =>
      some (.inr w52, M48))
  fun r49 M48 =>
  ob (K_X0_compare (mI M41 3400 x1) r42 r49 M48) fun r54 M53 =>
  some (.inl r54, M53)
  else none
  else none
  else none
  else none
def KB_X0_parameter (cf_X0_fixed : Nat → CM → Option ((Int32 ⊕ Nat) × CM)) (x1 : Int32) (M : CM) : Option ((Int32 ⊕ Nat) × CM) :=
  ob (K_J2_get 98 x1 M) fun r2 M1 =>
  if r2 = 0 ∨ mk M1 r2 = 17 then
  if mk M1 r2 = 17 then
  if mI M1 3215 r2 = 0 then
    if mk M1 r2 = 17 then
    if mI M1 3216 r2 = 0 then
      if mI M1 33 1 = 8 then
        if mk M1 r2 = 17 then
        if mI M1 3216 r2 = 0 then
          ob (K_X0_wrong 24 0 M1) fun r50 M49 =>
          if mk M49 r50 = 7 then
          some (.inr r50, M49)
          else none
        else
          ob (K_X0_wrong 31 0 M1) fun r55 M54 =>
          if mk M54 r55 = 7 then
          some (.inr r55, M54)
          else none
        else none
      else
        if mk M1 r2 = 17 then
        nm (msI M1 3216 r2 1) fun M24 =>
        nm (msI M24 33 1 ((mI M24 33 1) + 1)) fun M25 =>
        if mk M25 r2 = 17 then
        if mR M25 3210 r2 = 0 then
          if mk M25 r2 = 17 then
          if mk M25 r2 = 17 then
          nm (msI M25 3213 r2 (mI M25 3213 r2)) fun M41 =>
          nm (msI M41 33 1 ((mI M41 33 1) - 1)) fun M42 =>
          if mk M42 r2 = 17 then
          nm (msI M42 3215 r2 1) fun M44 =>
          if mk M44 r2 = 17 then
          some (.inl (mI M44 3213 r2), M44)
          else none
          else none
          else none
          else none
        else
          if mk M25 r2 = 17 then
          obS (cf_X0_fixed (mR M25 3210 r2) M25) (fun w32 M28 =>
              some (.inr w32, M28))
          fun r29 M28 =>
          if mk M28 r2 = 17 then
          nm (msI M28 3213 r2 r29) fun M34 =>
          nm (msI M34 33 1 ((mI M34 33 1) - 1)) fun M35 =>
          if mk M35 r2 = 17 then
          nm (msI M35 3215 r2 1) fun M37 =>
          if mk M37 r2 = 17 then
          some (.inl (mI M37 3213 r2), M37)
          else none
          else none
          else none
          else none
        else none
        else none
    else
      if mk M1 r2 = 17 then
      if mI M1 3216 r2 = 0 then
        ob (K_X0_wrong 24 0 M1) fun r13 M12 =>
        if mk M12 r13 = 7 then
        some (.inr r13, M12)
        else none
      else
        ob (K_X0_wrong 31 0 M1) fun r18 M17 =>
        if mk M17 r18 = 7 then
        some (.inr r18, M17)
        else none
      else none
    else none
  else
    if mk M1 r2 = 17 then
    some (.inl (mI M1 3213 r2), M1)
    else none
  else none
  else none
def KG_X0_fixed : Nat → (Nat → CM → Option ((Int32 ⊕ Nat) × CM)) × (Nat → CM → Option ((Int32 ⊕ Nat) × CM)) × (Int32 → CM → Option ((Int32 ⊕ Nat) × CM))
  | 0 => (fun _ _ => none, fun _ _ => none, fun _ _ => none)
  | d + 1 => (KB_X0_fixed (KG_X0_fixed d).2.2 (KG_X0_fixed d).2.1 (KG_X0_fixed d).1, KB_X0_fixedCondition (KG_X0_fixed d).2.1 (KG_X0_fixed d).1, KB_X0_parameter (KG_X0_fixed d).1)
def K_X0_fixed : Nat → CM → Option ((Int32 ⊕ Nat) × CM) := (KG_X0_fixed 1000).1
def K_X0_fixedCondition : Nat → CM → Option ((Int32 ⊕ Nat) × CM) := (KG_X0_fixed 1000).2.1
def K_X0_parameter : Int32 → CM → Option ((Int32 ⊕ Nat) × CM) := (KG_X0_fixed 1000).2.2
def K_X21_init (x0 : Nat) (M : CM) : Option (Unit × CM) :=
  if ¬ x0 = 0 then
  some ((), M)
  else none
def K_X22_init (x0 : Nat) (M : CM) : Option (Unit × CM) :=
  if ¬ x0 = 0 then
  some ((), M)
  else none
def KL_X0_isDone_2 : Nat → Int32 → Int32 → CM → Option ((Unit ⊕ Int32) × CM)
  | 0, _, _, _ => none
  | n + 1, x1, x2, M =>
    if mI M 37 1 ≤ x2 then
      some (.inl (), M)
    else
      ob (K_J2_get 112 x2 M) fun r2 M1 =>
      if r2 = 0 ∨ mk M1 r2 = 21 then
      if mk M1 r2 = 21 then
      if mI M1 4000 r2 = 0 then
        ob (K_J2_get 112 x2 M1) fun r10 M9 =>
        if r10 = 0 ∨ mk M9 r10 = 21 then
        if mk M9 r10 = 21 then
        if mI M9 4001 r10 = x1 then
          some (.inr 1, M9)
        else
          nm (x2 + 1) fun v15 =>
          KL_X0_isDone_2 n x1 v15 M9
        else none
        else none
      else
        nm (x2 + 1) fun v8 =>
        KL_X0_isDone_2 n x1 v8 M1
      else none
      else none
def K_X0_isDone (x1 : Int32) (M : CM) : Option (Int32 × CM) :=
  obS (KL_X0_isDone_2 FU x1 0 M) (fun r23 M20 => some (r23, M20)) fun q19 M20 =>
  some (0, M20)
def KJ_X0_when_292_104 (rec : Nat → Nat → Nat → Int32 → CM → Option ((Unit ⊕ (Unit ⊕ Nat)) × CM)) (x1 : Nat) (x2 : Nat) (x3 : Nat) (x4 : Int32) (x5 : Nat) (x6 : Nat) (M : CM) : Option ((Unit ⊕ (Unit ⊕ Nat)) × CM) :=
  if mk M x5 = 13 then
  obS (K_X0_flatten_2 (mR M 2402 x5) x1 0 (-1) M) (fun w78 M74 =>
      some (.inr (.inr w78), M74))
  fun r75 M74 =>
  if mk M74 x6 = 21 then
  nm (msR M74 4002 x6 r75) fun M80 =>
  nm (msI M80 37 1 ((mI M80 37 1) + 1)) fun M81 =>
  if mk M81 x3 = 20 then
  nm (msI M81 3803 x3 (mI M81 37 1)) fun M83 =>
  nm (x4 + 1) fun v84 =>
  rec x1 x2 x3 v84 M83
  else none
  else none
  else none
def KJ_X0_when_262_104 (rec : Nat → Nat → Nat → Int32 → CM → Option ((Unit ⊕ (Unit ⊕ Nat)) × CM)) (x1 : Nat) (x2 : Nat) (x3 : Nat) (x4 : Int32) (x5 : Nat) (x6 : Nat) (y0 : Int32) (y1 : Int32) (M : CM) : Option ((Unit ⊕ (Unit ⊕ Nat)) × CM) :=
  if y0 = y1 then
    if mk M x6 = 21 then
    if mI M 4000 x6 = 0 then
      if mk M x6 = 21 then
      ob (K_X0_isDone (mI M 4001 x6) M) fun r87 M86 =>
      if r87 = 0 then
        KJ_X0_when_292_104 rec x1 x2 x3 x4 x5 x6 M86
      else
        ob (K_X0_wrong 30 0 M86) fun r91 M90 =>
        if mk M90 r91 = 7 then
        some (.inr (.inr r91), M90)
        else none
      else none
    else
      KJ_X0_when_292_104 rec x1 x2 x3 x4 x5 x6 M
    else none
  else
    ob (K_X0_wrong 30 0 M) fun r67 M66 =>
    if mk M66 r67 = 7 then
    some (.inr (.inr r67), M66)
    else none
def KJ_X0_when_209_104 (rec : Nat → Nat → Nat → Int32 → CM → Option ((Unit ⊕ (Unit ⊕ Nat)) × CM)) (x1 : Nat) (x2 : Nat) (x3 : Nat) (x4 : Int32) (x5 : Nat) (x6 : Nat) (y0 : Nat) (y1 : Int32) (M : CM) : Option ((Unit ⊕ (Unit ⊕ Nat)) × CM) :=
  if mk M y0 = 21 then
  nm (msI M 4000 y0 y1) fun M47 =>
  if mk M47 x5 = 13 then
  obS (K_X0_varOf x1 (mR M47 2401 x5) M47) (fun w53 M49 =>
      some (.inr (.inr w53), M49))
  fun r50 M49 =>
  if mk M49 x6 = 21 then
  nm (msI M49 4001 x6 r50) fun M55 =>
  if mk M55 x6 = 21 then
  ob (K_J2_get 98 (mI M55 4001 x6) M55) fun r58 M57 =>
  if r58 = 0 ∨ mk M57 r58 = 17 then
  if mk M57 r58 = 17 then
  nm (mI M57 3203 r58) fun v63 =>
  if mk M57 x6 = 21 then
  if mI M57 4000 x6 = 0 then
    KJ_X0_when_262_104 rec x1 x2 x3 x4 x5 x6 v63 2 M57
  else
    KJ_X0_when_262_104 rec x1 x2 x3 x4 x5 x6 v63 0 M57
  else none
  else none
  else none
  else none
  else none
  else none
  else none
def KJ_X0_when_176_104 (rec : Nat → Nat → Nat → Int32 → CM → Option ((Unit ⊕ (Unit ⊕ Nat)) × CM)) (x1 : Nat) (x2 : Nat) (x3 : Nat) (x4 : Int32) (x5 : Nat) (M : CM) : Option ((Unit ⊕ (Unit ⊕ Nat)) × CM) :=
  ob (K_J2_get 112 (mI M 37 1) M) fun r41 M40 =>
  if r41 = 0 ∨ mk M40 r41 = 21 then
  if mk M40 x5 = 13 then
  if mI M40 2400 x5 = 28 then
    KJ_X0_when_209_104 rec x1 x2 x3 x4 x5 r41 r41 1 M40
  else
    KJ_X0_when_209_104 rec x1 x2 x3 x4 x5 r41 r41 0 M40
  else none
  else none
def KL_X0_when_104 : Nat → Nat → Nat → Nat → Int32 → CM → Option ((Unit ⊕ (Unit ⊕ Nat)) × CM)
  | 0, _, _, _, _, _ => none
  | n + 1, x1, x2, x3, x4, M =>
    if mk M x2 = 13 then
    if mk M (mR M 2406 x2) = 22 then
    ob (K_J2_size (mR M 2406 x2) M) fun r26 M25 =>
    if r26 ≤ x4 then
      some (.inl (), M25)
    else
      if mk M25 x2 = 13 then
      if mk M25 (mR M25 2406 x2) = 22 then
      ob (K_J2_get (mR M25 2406 x2) x4 M25) fun r32 M31 =>
      if r32 = 0 ∨ mk M31 r32 = 13 then
      if mI M31 37 1 = 200 then
        ob (K_X0_wrong 24 0 M31) fun r114 M113 =>
        if mk M113 r114 = 7 then
        some (.inr (.inr r114), M113)
        else none
      else
        ob (K_J2_size 112 M31) fun r37 M36 =>
        if mI M31 37 1 = r37 then
          if mn M36 ≤ 601024 ∧ ms M36 + 5 ≤ 7293034 then
          nm (mn M36) fun v101 =>
          nm (mnew M36 21 0 5) fun M102 =>
          if ¬ v101 = 0 then
          ob (K_X22_init v101 M102) fun r105 M104 =>
          ob (K_J2_add 112 v101 M104) fun r109 M108 =>
          KJ_X0_when_176_104 (KL_X0_when_104 n) x1 x2 x3 x4 r32 M108
          else none
          else none
        else
          KJ_X0_when_176_104 (KL_X0_when_104 n) x1 x2 x3 x4 r32 M36
      else none
      else none
      else none
    else none
    else none
def KJ_X0_when_45 (x1 : Nat) (x2 : Nat) (M : CM) : Option ((Unit ⊕ Nat) × CM) :=
  ob (K_J2_get 113 (mI M 39 1) M) fun r6 M5 =>
  if r6 = 0 ∨ mk M5 r6 = 20 then
  nm (msI M5 39 1 ((mI M5 39 1) + 1)) fun M10 =>
  if mk M10 x2 = 13 then
  obS (K_X0_flatten_2 (mR M10 2401 x2) x1 0 (-1) M10) (fun w16 M12 =>
      some (.inr w16, M12))
  fun r13 M12 =>
  if mk M12 r6 = 20 then
  nm (msR M12 3800 r6 r13) fun M18 =>
  if mk M18 r6 = 20 then
  nm (msI M18 3802 r6 (mI M18 37 1)) fun M20 =>
  if mk M20 r6 = 20 then
  nm (msI M20 3803 r6 (mI M20 37 1)) fun M22 =>
  obS (KL_X0_when_104 FU x1 x2 r6 0 M22) (fun r124 M121 => some (r124, M121)) fun q120 M121 =>
  some (.inl (), M121)
  else none
  else none
  else none
  else none
  else none
def K_X0_when (x1 : Nat) (x2 : Nat) (M : CM) : Option ((Unit ⊕ Nat) × CM) :=
  if mI M 39 1 = 12 then
    ob (K_X0_wrong 24 0 M) fun r139 M138 =>
    if mk M138 r139 = 7 then
    some (.inr r139, M138)
    else none
  else
    ob (K_J2_size 113 M) fun r2 M1 =>
    if mI M 39 1 = r2 then
      if mn M1 ≤ 601024 ∧ ms M1 + 6 ≤ 7293034 then
      nm (mn M1) fun v126 =>
      nm (mnew M1 20 0 6) fun M127 =>
      if ¬ v126 = 0 then
      ob (K_X21_init v126 M127) fun r130 M129 =>
      ob (K_J2_add 113 v126 M129) fun r134 M133 =>
      KJ_X0_when_45 x1 x2 M133
      else none
      else none
    else
      KJ_X0_when_45 x1 x2 M1
def K_X20_init (x0 : Nat) (M : CM) : Option (Unit × CM) :=
  if ¬ x0 = 0 then
  some ((), M)
  else none
def KJ_X0_equation_45 (x1 : Nat) (x2 : Nat) (M : CM) : Option ((Nat ⊕ Nat) × CM) :=
  ob (K_J2_get 111 (mI M 35 1) M) fun r6 M5 =>
  if r6 = 0 ∨ mk M5 r6 = 19 then
  if mk M5 r6 = 19 then
  nm (msR M5 3600 r6 x1) fun M11 =>
  if mk M11 r6 = 19 then
  nm (msR M11 3601 r6 x2) fun M13 =>
  nm (msI M13 35 1 ((mI M13 35 1) + 1)) fun M14 =>
  some (.inl r6, M14)
  else none
  else none
  else none
def K_X0_equation (x1 : Nat) (x2 : Nat) (M : CM) : Option ((Nat ⊕ Nat) × CM) :=
  if mI M 35 1 = 120 then
    ob (K_X0_wrong 24 0 M) fun r29 M28 =>
    if mk M28 r29 = 7 then
    some (.inr r29, M28)
    else none
  else
    ob (K_J2_size 111 M) fun r2 M1 =>
    if mI M 35 1 = r2 then
      if mn M1 ≤ 601024 ∧ ms M1 + 2 ≤ 7293034 then
      nm (mn M1) fun v16 =>
      nm (mnew M1 19 0 2) fun M17 =>
      if ¬ v16 = 0 then
      ob (K_X20_init v16 M17) fun r20 M19 =>
      ob (K_J2_add 111 v16 M19) fun r24 M23 =>
      KJ_X0_equation_45 x1 x2 M23
      else none
      else none
    else
      KJ_X0_equation_45 x1 x2 M1
def KL_X0_list_85 (cf_X0_list : Nat → Nat → CM → Option ((Unit ⊕ Nat) × CM)) : Nat → Nat → Nat → Int32 → Nat → Int32 → CM → Option ((Unit ⊕ (Unit ⊕ Nat)) × CM)
  | 0, _, _, _, _, _, _ => none
  | n + 1, x1, x2, x3, x4, x5, M =>
    if mk M x4 = 13 then
    if mI M 2405 x4 < x5 then
      some (.inl (), M)
    else
      nm (msI M 32 1 ((mI M 32 1) + 1)) fun M50 =>
      if mI M50 32 1 ≤ 4000 then
        if mk M50 x4 = 13 then
        if inb (mI M50 24 1) 17 then
        nm (mwA M50 103 (ix (mI M50 24 1)) (mI M50 2403 x4)) fun M53 =>
        if inb (mI M53 24 1) 17 then
        nm (mwA M53 104 (ix (mI M53 24 1)) x5) fun M55 =>
        nm (msI M55 24 1 ((mI M55 24 1) + 1)) fun M56 =>
        if mk M56 x4 = 13 then
        obS (cf_X0_list x1 (mR M56 2406 x4) M56) (fun w62 M58 =>
            some (.inr (.inr w62), M58))
        fun r59 M58 =>
        nm (msI M58 24 1 ((mI M58 24 1) - 1)) fun M63 =>
        nm (x5 + 1) fun v64 =>
        KL_X0_list_85 cf_X0_list n x1 x2 x3 x4 v64 M63
        else none
        else none
        else none
        else none
      else
        ob (K_X0_wrong 24 0 M50) fun r66 M65 =>
        if mk M65 r66 = 7 then
        some (.inr (.inr r66), M65)
        else none
    else none
def KL_X0_list_2 (cf_X0_list : Nat → Nat → CM → Option ((Unit ⊕ Nat) × CM)) : Nat → Nat → Nat → Int32 → CM → Option ((Unit ⊕ (Unit ⊕ Nat)) × CM)
  | 0, _, _, _, _ => none
  | n + 1, x1, x2, x3, M =>
    if mk M x2 = 22 then
    ob (K_J2_size x2 M) fun r3 M2 =>
    if r3 ≤ x3 then
      some (.inl (), M2)
    else
      if mk M2 x2 = 22 then
      ob (K_J2_get x2 x3 M2) fun r8 M7 =>
      if r8 = 0 ∨ mk M7 r8 = 13 then
      if mk M7 r8 = 13 then
      if mI M7 2400 r8 = 15 then
        obS (K_X0_connect x1 r8 M7) (fun w18 M14 =>
            some (.inr (.inr w18), M14))
        fun r15 M14 =>
        nm (x3 + 1) fun v19 =>
        KL_X0_list_2 cf_X0_list n x1 x2 v19 M14
      else
      if mI M7 2400 r8 = 16 then
        obS (K_X0_when x1 r8 M7) (fun w25 M21 =>
            some (.inr (.inr w25), M21))
        fun r22 M21 =>
        nm (x3 + 1) fun v26 =>
        KL_X0_list_2 cf_X0_list n x1 x2 v26 M21
      else
      if mI M7 2400 r8 = 17 then
        if mk M7 r8 = 13 then
        obS (K_X0_flatten_2 (mR M7 2401 r8) x1 0 (-1) M7) (fun w33 M29 =>
            some (.inr (.inr w33), M29))
        fun r30 M29 =>
        if mk M29 r8 = 13 then
        obS (K_X0_flatten_2 (mR M29 2402 r8) x1 0 (-1) M29) (fun w39 M35 =>
            some (.inr (.inr w39), M35))
        fun r36 M35 =>
        obS (K_X0_equation r30 r36 M35) (fun w44 M40 =>
            some (.inr (.inr w44), M40))
        fun r41 M40 =>
        nm (x3 + 1) fun v45 =>
        KL_X0_list_2 cf_X0_list n x1 x2 v45 M40
        else none
        else none
      else
      if mI M7 2400 r8 = 18 then
        if mk M7 r8 = 13 then
        nm (mI M7 2404 r8) fun v48 =>
        obS (KL_X0_list_85 cf_X0_list FU x1 x2 x3 r8 v48 M7) (fun r77 M73 => some (.inr r77, M73)) fun q72 M73 =>
        nm (x3 + 1) fun v75 =>
        KL_X0_list_2 cf_X0_list n x1 x2 v75 M73
        else none
      else
      if mI M7 2400 r8 = 19 then
        if mk M7 r8 = 13 then
        obS (K_X0_flatten_2 (mR M7 2401 r8) x1 0 (-1) M7) (fun w84 M80 =>
            some (.inr (.inr w84), M80))
        fun r81 M80 =>
        if mk M80 r8 = 13 then
        obS (K_X0_flatten_2 (mR M80 2402 r8) x1 0 (-1) M80) (fun w90 M86 =>
            some (.inr (.inr w90), M86))
        fun r87 M86 =>
        obS (K_X0_equation r81 r87 M86) (fun w95 M91 =>
            some (.inr (.inr w95), M91))
        fun r92 M91 =>
        nm (x3 + 1) fun v96 =>
        KL_X0_list_2 cf_X0_list n x1 x2 v96 M91
        else none
        else none
      else
      if mI M7 2400 r8 = 20 then
        if mk M7 r8 = 13 then
        obS (K_X0_flatten_2 (mR M7 2401 r8) x1 0 (-1) M7) (fun w103 M99 =>
            some (.inr (.inr w103), M99))
        fun r100 M99 =>
        if mk M99 r8 = 13 then
        obS (K_X0_flatten_2 (mR M99 2402 r8) x1 0 (-1) M99) (fun w109 M105 =>
            some (.inr (.inr w109), M105))
        fun r106 M105 =>
        obS (K_X0_equation r100 r106 M105) (fun w114 M110 =>
            some (.inr (.inr w114), M110))
        fun r111 M110 =>
        nm (x3 + 1) fun v115 =>
        KL_X0_list_2 cf_X0_list n x1 x2 v115 M110
        else none
        else none
      else
      if mI M7 2400 r8 = 21 then
        ob (K_X3_clear 107 M7) fun r118 M117 =>
        nm (msR M117 27 1 107) fun M121 =>
        if mk M121 r8 = 13 then
        obS (K_X0_flatten_2 (mR M121 2401 r8) x1 1 (-1) M121) (fun w127 M123 =>
            some (.inr (.inr w127), M123))
        fun r124 M123 =>
        nm (msR M123 27 1 105) fun M128 =>
        obS (K_X0_fixedCondition r124 M128) (fun w133 M129 =>
            some (.inr (.inr w133), M129))
        fun r130 M129 =>
        if r130 = 0 then
          if mk M129 r8 = 13 then
          obS (cf_X0_list x1 (mR M129 2407 r8) M129) (fun w139 M135 =>
              some (.inr (.inr w139), M135))
          fun r136 M135 =>
          nm (x3 + 1) fun v140 =>
          KL_X0_list_2 cf_X0_list n x1 x2 v140 M135
          else none
        else
          if mk M129 r8 = 13 then
          obS (cf_X0_list x1 (mR M129 2406 r8) M129) (fun w146 M142 =>
              some (.inr (.inr w146), M142))
          fun r143 M142 =>
          nm (x3 + 1) fun v147 =>
          KL_X0_list_2 cf_X0_list n x1 x2 v147 M142
          else none
        else none
      else
      if mk M7 r8 = 13 then
      obS (K_X0_flatten_2 (mR M7 2401 r8) x1 0 (-1) M7) (fun w154 M150 =>
          some (.inr (.inr w154), M150))
      fun r151 M150 =>
      if mk M150 r8 = 13 then
      obS (K_X0_flatten_2 (mR M150 2402 r8) x1 0 (-1) M150) (fun w160 M156 =>
          some (.inr (.inr w160), M156))
      fun r157 M156 =>
      obS (K_X0_equation r151 r157 M156) (fun w165 M161 =>
          some (.inr (.inr w165), M161))
      fun r162 M161 =>
      nm (x3 + 1) fun v166 =>
      KL_X0_list_2 cf_X0_list n x1 x2 v166 M161
      else none
      else none
      else none
      else none
      else none
    else none
def KB_X0_list (cf_X0_list : Nat → Nat → CM → Option ((Unit ⊕ Nat) × CM)) (x1 : Nat) (x2 : Nat) (M : CM) : Option ((Unit ⊕ Nat) × CM) :=
  obS (KL_X0_list_2 cf_X0_list FU x1 x2 0 M) (fun r172 M169 => some (r172, M169)) fun q168 M169 =>
  some (.inl (), M169)
def KG_X0_list : Nat → (Nat → Nat → CM → Option ((Unit ⊕ Nat) × CM))
  | 0 => (fun _ _ _ => none)
  | d + 1 => (KB_X0_list (KG_X0_list d))
def K_X0_list : Nat → Nat → CM → Option ((Unit ⊕ Nat) × CM) := (KG_X0_list 40)
def KL_X0_of_2 (cf_X0_of : Nat → Nat → CM → Option ((Unit ⊕ Nat) × CM)) : Nat → Nat → Nat → Int32 → CM → Option ((Unit ⊕ (Unit ⊕ Nat)) × CM)
  | 0, _, _, _, _ => none
  | n + 1, x1, x2, x3, M =>
    if mk M x2 = 10 then
    if mk M (mR M 1802 x2) = 22 then
    ob (K_J2_size (mR M 1802 x2) M) fun r4 M3 =>
    if r4 ≤ x3 then
      some (.inl (), M3)
    else
      if mk M3 x2 = 10 then
      if mk M3 (mR M3 1802 x2) = 22 then
      ob (K_J2_get (mR M3 1802 x2) x3 M3) fun r10 M9 =>
      if r10 = 0 ∨ mk M9 r10 = 11 then
      if mk M9 r10 = 11 then
      if mI M9 2000 r10 = 0 then
        nm (x3 + 1) fun v16 =>
        KL_X0_of_2 cf_X0_of n x1 x2 v16 M9
      else
        if mk M9 x2 = 10 then
        if mk M9 (mR M9 1802 x2) = 22 then
        ob (K_J2_get (mR M9 1802 x2) x3 M9) fun r20 M19 =>
        if r20 = 0 ∨ mk M19 r20 = 11 then
        if mk M19 r20 = 11 then
        ob (K_X0_model (mI M19 2002 r20) M19) fun r26 M25 =>
        obS (cf_X0_of x1 r26 M25) (fun w33 M29 =>
            some (.inr (.inr w33), M29))
        fun r30 M29 =>
        nm (x3 + 1) fun v34 =>
        KL_X0_of_2 cf_X0_of n x1 x2 v34 M29
        else none
        else none
        else none
        else none
      else none
      else none
      else none
      else none
    else none
    else none
def KB_X0_of (cf_X0_of : Nat → Nat → CM → Option ((Unit ⊕ Nat) × CM)) (x1 : Nat) (x2 : Nat) (M : CM) : Option ((Unit ⊕ Nat) × CM) :=
  obS (KL_X0_of_2 cf_X0_of FU x1 x2 0 M) (fun r47 M38 => some (r47, M38)) fun q37 M38 =>
  if mk M38 x2 = 10 then
  obS (K_X0_list x1 (mR M38 1803 x2) M38) (fun w45 M41 =>
      some (.inr w45, M41))
  fun r42 M41 =>
  some (.inl (), M41)
  else none
def KG_X0_of : Nat → (Nat → Nat → CM → Option ((Unit ⊕ Nat) × CM))
  | 0 => (fun _ _ _ => none)
  | d + 1 => (KB_X0_of (KG_X0_of d))
def K_X0_of : Nat → Nat → CM → Option ((Unit ⊕ Nat) × CM) := (KG_X0_of 40)
def KL_X0_all_28 (cf_X0_all : Nat → CM → Option ((Unit ⊕ Nat) × CM)) : Nat → Nat → Int32 → Nat → Int32 → CM → Option ((Unit ⊕ (Unit ⊕ Nat)) × CM)
  | 0, _, _, _, _, _ => none
  | n + 1, x1, x2, x3, x4, M =>
    if mk M x3 = 16 then
    if mI M 3004 x3 = 0 then
      if mk M x3 = 16 then
      if mk M (mR M 3003 x3) = 11 then
      ob (K_X11_is (mR M 3003 x3) 9 M) fun r19 M18 =>
      if r19 = 0 then
        if mk M18 x3 = 16 then
        ob (K_X16_many x3 M18) fun r24 M23 =>
        if r24 ≤ x4 then
          some (.inl (), M23)
        else
          ob (K_X0_instance x3 x4 M23) fun r28 M27 =>
          obS (cf_X0_all r28 M27) (fun w35 M31 =>
              some (.inr (.inr w35), M31))
          fun r32 M31 =>
          nm (x4 + 1) fun v36 =>
          KL_X0_all_28 cf_X0_all n x1 x2 x3 v36 M31
        else none
      else
        some (.inl (), M18)
      else none
      else none
    else
      some (.inl (), M)
    else none
def KL_X0_all_2 (cf_X0_all : Nat → CM → Option ((Unit ⊕ Nat) × CM)) : Nat → Nat → Int32 → CM → Option ((Unit ⊕ (Unit ⊕ Nat)) × CM)
  | 0, _, _, _ => none
  | n + 1, x1, x2, M =>
    if mk M x1 = 14 then
    if mk M (mR M 2605 x1) = 22 then
    ob (K_J2_size (mR M 2605 x1) M) fun r4 M3 =>
    if r4 ≤ x2 then
      some (.inl (), M3)
    else
      if mk M3 x1 = 14 then
      if mk M3 (mR M3 2605 x1) = 22 then
      ob (K_J2_get (mR M3 2605 x1) x2 M3) fun r10 M9 =>
      if r10 = 0 ∨ mk M9 r10 = 16 then
      obS (KL_X0_all_28 cf_X0_all FU x1 x2 r10 0 M9) (fun r45 M41 => some (.inr r45, M41)) fun q40 M41 =>
      nm (x2 + 1) fun v43 =>
      KL_X0_all_2 cf_X0_all n x1 v43 M41
      else none
      else none
      else none
    else none
    else none
def KB_X0_all (cf_X0_all : Nat → CM → Option ((Unit ⊕ Nat) × CM)) (x1 : Nat) (M : CM) : Option ((Unit ⊕ Nat) × CM) :=
  obS (KL_X0_all_2 cf_X0_all FU x1 0 M) (fun r57 M48 => some (r57, M48)) fun q47 M48 =>
  if mk M48 x1 = 14 then
  obS (K_X0_of x1 (mR M48 2602 x1) M48) (fun w55 M51 =>
      some (.inr w55, M51))
  fun r52 M51 =>
  some (.inl (), M51)
  else none
def KG_X0_all : Nat → (Nat → CM → Option ((Unit ⊕ Nat) × CM))
  | 0 => (fun _ _ => none)
  | d + 1 => (KB_X0_all (KG_X0_all d))
def K_X0_all : Nat → CM → Option ((Unit ⊕ Nat) × CM) := (KG_X0_all 40)
def KL_X0_allHit_2 : Nat → Int32 → Int32 → CM → Option ((Unit ⊕ (Unit ⊕ Nat)) × CM)
  | 0, _, _, _ => none
  | n + 1, x2, x3, M =>
    if x2 ≤ x3 then
      some (.inl (), M)
    else
      ob (K_J2_get 101 x3 M) fun r2 M1 =>
      if r2 = 0 ∨ mk M1 r2 = 15 then
      if mk M1 r2 = 15 then
      if mI M1 2803 r2 = 0 then
        ob (K_X0_wrong 21 0 M1) fun r10 M9 =>
        if mk M9 r10 = 7 then
        some (.inr (.inr r10), M9)
        else none
      else
        nm (x3 + 1) fun v8 =>
        KL_X0_allHit_2 n x2 v8 M1
      else none
      else none
def K_X0_allHit (x1 : Int32) (x2 : Int32) (M : CM) : Option ((Unit ⊕ Nat) × CM) :=
  obS (KL_X0_allHit_2 FU x2 x1 M) (fun r20 M17 => some (r20, M17)) fun q16 M17 =>
  some (.inl (), M17)
def KL_X0_back_69 : Nat → Int32 → CM → Option (Unit × CM)
  | 0, _, _ => none
  | n + 1, x1, M =>
    if mI M 15 1 ≤ x1 then
      some ((), M)
    else
      ob (K_J2_get 98 x1 M) fun r9 M8 =>
      if r9 = 0 ∨ mk M8 r9 = 17 then
      if inb x1 96 then
      if mk M8 r9 = 17 then
      nm (msI M8 3213 r9 (mA M8 154 (ix x1))) fun M15 =>
      ob (K_J2_get 98 x1 M15) fun r17 M16 =>
      if r17 = 0 ∨ mk M16 r17 = 17 then
      if inb x1 96 then
      if mk M16 r17 = 17 then
      nm (msI M16 3214 r17 (mA M16 155 (ix x1))) fun M23 =>
      nm (x1 + 1) fun v24 =>
      KL_X0_back_69 n v24 M23
      else none
      else none
      else none
      else none
      else none
      else none
def KL_X0_back_131 : Nat → Int32 → CM → Option (Unit × CM)
  | 0, _, _ => none
  | n + 1, x1, M =>
    if mI M 39 1 ≤ x1 then
      some ((), M)
    else
      ob (K_J2_get 113 x1 M) fun r30 M29 =>
      if r30 = 0 ∨ mk M29 r30 = 20 then
      if inb x1 12 then
      if mk M29 r30 = 20 then
      nm (msI M29 3804 r30 (mA M29 157 (ix x1))) fun M37 =>
      nm (x1 + 1) fun v38 =>
      KL_X0_back_131 n v38 M37
      else none
      else none
      else none
def K_X0_back (M : CM) : Option (Unit × CM) :=
  nm (msI M 85 1 (mI M 800 151)) fun M1 =>
  if mk M1 152 = 50 ∧ mk M1 124 = 50 ∧ ¬ (0 : Int32) < 0 ∧ ¬ (0 : Int32) < 0 ∧ ¬ (180 : Int32) < 0 ∧ ix 0 + ix 180 ≤ ml M1 152 ∧ ix 0 + ix 180 ≤ ml M1 124 then
  nm (mcA M1 152 (ix 0) 124 (ix 0) (ix 180)) fun M3 =>
  if mk M3 153 = 50 ∧ mk M3 125 = 50 ∧ ¬ (0 : Int32) < 0 ∧ ¬ (0 : Int32) < 0 ∧ ¬ (180 : Int32) < 0 ∧ ix 0 + ix 180 ≤ ml M3 153 ∧ ix 0 + ix 180 ≤ ml M3 125 then
  nm (mcA M3 153 (ix 0) 125 (ix 0) (ix 180)) fun M5 =>
  if mk M5 156 = 52 ∧ mk M5 148 = 52 ∧ ¬ (0 : Int32) < 0 ∧ ¬ (0 : Int32) < 0 ∧ ¬ (24 : Int32) < 0 ∧ ix 0 + ix 24 ≤ ml M5 156 ∧ ix 0 + ix 24 ≤ ml M5 148 then
  nm (mcA M5 156 (ix 0) 148 (ix 0) (ix 24)) fun M7 =>
  ob (KL_X0_back_69 FU 0 M7) fun q26 M27 =>
  ob (KL_X0_back_131 FU 0 M27) fun q40 M41 =>
  some ((), M41)
  else none
  else none
  else none
def KJ_X0_block_103 (x1 : Int32) (x3 : Int32) (x4 : Int32) (y0 : Int32) (M : CM) : Option (Int32 × CM) :=
  if y0 < x3 then
    if x4 = 0 then
      if inb x1 181 then
      if inb ((mA M 141 (ix x1)) + y0) 180 then
      some (mA M 142 (ix ((mA M 141 (ix x1)) + y0)), M)
      else none
      else none
    else
      if inb x1 181 then
      if inb ((mA M 141 (ix x1)) + y0) 180 then
      some (mA M 143 (ix ((mA M 141 (ix x1)) + y0)), M)
      else none
      else none
  else
    some ((-2), M)
def KJ_X0_block_86 (x1 : Int32) (x2 : Int32) (x3 : Int32) (y0 : Int32) (M : CM) : Option (Int32 × CM) :=
  if y0 = 0 then
    KJ_X0_block_103 x1 x3 y0 (x2 - 2) M
  else
    KJ_X0_block_103 x1 x3 y0 (x2 - 100) M
def K_X0_block (x1 : Int32) (x2 : Int32) (M : CM) : Option (Int32 × CM) :=
  if mI M 46 1 = 0 then
    some ((-4), M)
  else
    if x1 < 0 then
      some ((-2), M)
    else
      if x1 < mI M 75 1 then
        if 0 ≤ x2 then
          if inb (x1 + 1) 181 then
          if inb x1 181 then
          nm ((mA M 141 (ix (x1 + 1))) - (mA M 141 (ix x1))) fun v4 =>
          if 2 ≤ x2 then
            if x2 < 100 then
              KJ_X0_block_86 x1 x2 v4 0 M
            else
              KJ_X0_block_86 x1 x2 v4 1 M
          else
            if x2 = 0 then
              some (v4, M)
            else
              if inb x1 180 then
              if mA M 144 (ix x1) = 0 then
                some (0, M)
              else
                some (1, M)
              else none
          else none
          else none
        else
          some ((-1), M)
      else
        some ((-2), M)
def KL_X0_giveNone_2 : Nat → Int32 → CM → Option (Unit × CM)
  | 0, _, _ => none
  | n + 1, x1, M =>
    if 180 ≤ x1 then
      some ((), M)
    else
      if inb x1 180 then
      nm (mwA M 122 (ix x1) (-1)) fun M2 =>
      nm (x1 + 1) fun v3 =>
      KL_X0_giveNone_2 n v3 M2
      else none
def K_X0_giveNone (M : CM) : Option (Unit × CM) :=
  ob (KL_X0_giveNone_2 FU 0 M) fun q5 M6 =>
  some ((), M6)
def KL_X0_unmark_2 : Nat → Int32 → CM → Option (Unit × CM)
  | 0, _, _ => none
  | n + 1, x1, M =>
    if 180 ≤ x1 then
      some ((), M)
    else
      if inb x1 180 then
      nm (mwA M 138 (ix x1) (nZ 0)) fun M2 =>
      if inb x1 180 then
      nm (mwA M2 139 (ix x1) (nZ 0)) fun M4 =>
      nm (x1 + 1) fun v5 =>
      KL_X0_unmark_2 n v5 M4
      else none
      else none
def K_X0_unmark (M : CM) : Option (Unit × CM) :=
  ob (KL_X0_unmark_2 FU 0 M) fun q7 M8 =>
  some ((), M8)
def K_X0_counts (x1 : Int32) (x2 : Int32) (M : CM) : Option (Int32 × CM) :=
  if x2 = 0 then
    if inb x1 180 then
    if 0 ≤ mA M 121 (ix x1) then
      some (0, M)
    else
      some (1, M)
    else none
  else
    if x2 = 1 then
      if inb x1 180 then
      if mA M 121 (ix x1) < 0 then
        some (0, M)
      else
        some (1, M)
      else none
    else
      if inb x1 180 then
      if 2 ≤ mA M 123 (ix x1) then
        some (0, M)
      else
        some (1, M)
      else none
def KJ_X0_find_2_34_9 (cf_X0_find_2 : Int32 → Int32 → CM → Option (Int32 × CM)) (rec : Int32 → Int32 → Int32 → CM → Option ((Unit ⊕ Int32) × CM)) (x1 : Int32) (x2 : Int32) (x3 : Int32) (y0 : Int32) (M : CM) : Option ((Unit ⊕ Int32) × CM) :=
  if inb ((180 * x1) + y0) 32400 then
  if mA M 132 (ix ((180 * x1) + y0)) = 0 then
    nm (x3 + 1) fun v5 =>
    rec x1 x2 v5 M
  else
    ob (K_X0_counts y0 x2 M) fun r7 M6 =>
    if r7 = 0 then
      nm (x3 + 1) fun v10 =>
      rec x1 x2 v10 M6
    else
      if inb y0 180 then
      if 0 ≤ mA M6 122 (ix y0) then
        nm (x3 + 1) fun v12 =>
        rec x1 x2 v12 M6
      else
        if inb y0 180 then
        nm (mwA M6 122 (ix y0) x1) fun M14 =>
        some (.inr 1, M14)
        else none
      else none
  else none
def KL_X0_find_2_9 (cf_X0_find_2 : Int32 → Int32 → CM → Option (Int32 × CM)) : Nat → Int32 → Int32 → Int32 → CM → Option ((Unit ⊕ Int32) × CM)
  | 0, _, _, _, _ => none
  | n + 1, x1, x2, x3, M =>
    if mI M 57 1 ≤ x3 then
      some (.inl (), M)
    else
      if x2 = 1 then
        KJ_X0_find_2_34_9 cf_X0_find_2 (KL_X0_find_2_9 cf_X0_find_2 n) x1 x2 x3 (((mI M 57 1) - 1) - x3) M
      else
        KJ_X0_find_2_34_9 cf_X0_find_2 (KL_X0_find_2_9 cf_X0_find_2 n) x1 x2 x3 x3 M
def KJ_X0_find_2_115_90 (cf_X0_find_2 : Int32 → Int32 → CM → Option (Int32 × CM)) (rec : Int32 → Int32 → Int32 → CM → Option ((Unit ⊕ Int32) × CM)) (x1 : Int32) (x2 : Int32) (x3 : Int32) (y0 : Int32) (M : CM) : Option ((Unit ⊕ Int32) × CM) :=
  if inb ((180 * x1) + y0) 32400 then
  if mA M 132 (ix ((180 * x1) + y0)) = 0 then
    nm (x3 + 1) fun v25 =>
    rec x1 x2 v25 M
  else
    ob (K_X0_counts y0 x2 M) fun r27 M26 =>
    if r27 = 0 then
      nm (x3 + 1) fun v30 =>
      rec x1 x2 v30 M26
    else
      if inb y0 180 then
      if mA M26 138 (ix y0) = 0 then
        if inb y0 180 then
        nm (mwA M26 138 (ix y0) (nZ 1)) fun M35 =>
        if inb y0 180 then
        ob (cf_X0_find_2 (mA M35 122 (ix y0)) x2 M35) fun r38 M37 =>
        if r38 = 0 then
          nm (x3 + 1) fun v41 =>
          rec x1 x2 v41 M37
        else
          if inb y0 180 then
          nm (mwA M37 122 (ix y0) x1) fun M43 =>
          some (.inr 1, M43)
          else none
        else none
        else none
      else
        nm (x3 + 1) fun v33 =>
        rec x1 x2 v33 M26
      else none
  else none
def KL_X0_find_2_90 (cf_X0_find_2 : Int32 → Int32 → CM → Option (Int32 × CM)) : Nat → Int32 → Int32 → Int32 → CM → Option ((Unit ⊕ Int32) × CM)
  | 0, _, _, _, _ => none
  | n + 1, x1, x2, x3, M =>
    if mI M 57 1 ≤ x3 then
      some (.inl (), M)
    else
      if x2 = 1 then
        KJ_X0_find_2_115_90 cf_X0_find_2 (KL_X0_find_2_90 cf_X0_find_2 n) x1 x2 x3 (((mI M 57 1) - 1) - x3) M
      else
        KJ_X0_find_2_115_90 cf_X0_find_2 (KL_X0_find_2_90 cf_X0_find_2 n) x1 x2 x3 x3 M
def KB_X0_find_2 (cf_X0_find_2 : Int32 → Int32 → CM → Option (Int32 × CM)) (x1 : Int32) (x2 : Int32) (M : CM) : Option (Int32 × CM) :=
  if inb x1 180 then
  nm (mwA M 139 (ix x1) (nZ 1)) fun M2 =>
  obS (KL_X0_find_2_9 cf_X0_find_2 FU x1 x2 0 M2) (fun r56 M21 => some (r56, M21)) fun q20 M21 =>
  obS (KL_X0_find_2_90 cf_X0_find_2 FU x1 x2 0 M21) (fun r54 M51 => some (r54, M51)) fun q50 M51 =>
  some (0, M51)
  else none
def KG_X0_find_2 : Nat → (Int32 → Int32 → CM → Option (Int32 × CM))
  | 0 => (fun _ _ _ => none)
  | d + 1 => (KB_X0_find_2 (KG_X0_find_2 d))
def K_X0_find_2 : Int32 → Int32 → CM → Option (Int32 × CM) := (KG_X0_find_2 300)
def KL_X0_chooseStates_6 : Nat → Int32 → CM → Option ((Unit ⊕ (Unit ⊕ Nat)) × CM)
  | 0, _, _ => none
  | n + 1, x1, M =>
    if mI M 65 1 ≤ x1 then
      some (.inl (), M)
    else
      if inb x1 180 then
      if mA M 128 (ix x1) = 0 then
        if inb x1 180 then
        if mA M 129 (ix x1) < 0 then
          nm (x1 + 1) fun v9 =>
          KL_X0_chooseStates_6 n v9 M
        else
          ob (K_X0_unmark M) fun r11 M10 =>
          ob (K_X0_find_2 x1 1 M10) fun r15 M14 =>
          if r15 = 0 then
            ob (K_X0_wrong 53 x1 M14) fun r20 M19 =>
            if mk M19 r20 = 7 then
            some (.inr (.inr r20), M19)
            else none
          else
            nm (x1 + 1) fun v18 =>
            KL_X0_chooseStates_6 n v18 M14
        else none
      else
        nm (x1 + 1) fun v7 =>
        KL_X0_chooseStates_6 n v7 M
      else none
def KJ_X0_chooseStates_132_65 (rec : Int32 → CM → Option ((Unit ⊕ (Unit ⊕ Nat)) × CM)) (x1 : Int32) (M : CM) : Option ((Unit ⊕ (Unit ⊕ Nat)) × CM) :=
  if inb x1 180 then
  if mA M 123 (ix x1) = 2 then
    if inb (mI M 74 1) 180 then
    nm (mwA M 140 (ix (mI M 74 1)) x1) fun M40 =>
    nm (msI M40 74 1 ((mI M40 74 1) + 1)) fun M41 =>
    nm (x1 + 1) fun v42 =>
    rec v42 M41
    else none
  else
    nm (x1 + 1) fun v38 =>
    rec v38 M
  else none
def KJ_X0_chooseStates_105_65 (rec : Int32 → CM → Option ((Unit ⊕ (Unit ⊕ Nat)) × CM)) (x1 : Int32) (y0 : Nat) (y1 : Int32) (y2 : Int32) (M : CM) : Option ((Unit ⊕ (Unit ⊕ Nat)) × CM) :=
  if mk M y0 = 50 ∧ inb y1 (ml M y0) then
  nm (mwA M y0 (ix y1) y2) fun M35 =>
  if inb x1 180 then
  if mA M35 123 (ix x1) = 2 then
    if mI M35 74 1 = 24 then
      ob (K_X0_wrong 55 (-1) M35) fun r45 M44 =>
      if mk M44 r45 = 7 then
      some (.inr (.inr r45), M44)
      else none
    else
      KJ_X0_chooseStates_132_65 rec x1 M35
  else
    KJ_X0_chooseStates_132_65 rec x1 M35
  else none
  else none
def KL_X0_chooseStates_65 : Nat → Int32 → CM → Option ((Unit ⊕ (Unit ⊕ Nat)) × CM)
  | 0, _, _ => none
  | n + 1, x1, M =>
    if mI M 57 1 ≤ x1 then
      some (.inl (), M)
    else
      if inb x1 180 then
      if 0 ≤ mA M 121 (ix x1) then
        if inb x1 180 then
        if mA M 122 (ix x1) < 0 then
          KJ_X0_chooseStates_105_65 (KL_X0_chooseStates_65 n) x1 123 x1 2 M
        else
          KJ_X0_chooseStates_105_65 (KL_X0_chooseStates_65 n) x1 123 x1 1 M
        else none
      else
        KJ_X0_chooseStates_105_65 (KL_X0_chooseStates_65 n) x1 123 x1 0 M
      else none
def K_X0_chooseStates (M : CM) : Option ((Unit ⊕ Nat) × CM) :=
  ob (K_X0_giveNone M) fun r2 M1 =>
  obS (KL_X0_chooseStates_6 FU 0 M1) (fun r60 M29 => some (r60, M29)) fun q28 M29 =>
  nm (msI M29 74 1 0) fun M31 =>
  obS (KL_X0_chooseStates_65 FU 0 M31) (fun r58 M55 => some (r58, M55)) fun q54 M55 =>
  some (.inl (), M55)
def KL_X0_isAlone_2 : Nat → Int32 → Int32 → CM → Option ((Unit ⊕ Int32) × CM)
  | 0, _, _, _ => none
  | n + 1, x1, x2, M =>
    if 2 * (mI M 16 1) ≤ x2 then
      some (.inl (), M)
    else
      if x2 = x1 then
        nm (x2 + 1) fun v1 =>
        KL_X0_isAlone_2 n x1 v1 M
      else
        ob (K_X0_top x2 M) fun r3 M2 =>
        ob (K_X0_top x1 M2) fun r7 M6 =>
        if r3 = r7 then
          some (.inr 0, M6)
        else
          nm (x2 + 1) fun v10 =>
          KL_X0_isAlone_2 n x1 v10 M6
def K_X0_isAlone (x1 : Int32) (M : CM) : Option (Int32 × CM) :=
  obS (KL_X0_isAlone_2 FU x1 0 M) (fun r18 M15 => some (r18, M15)) fun q14 M15 =>
  some (1, M15)
def KL_X0_varIn_5 : Nat → Nat → Int32 → Int32 → Int32 → CM → Option ((Unit ⊕ Int32) × CM)
  | 0, _, _, _, _, _ => none
  | n + 1, x1, x2, x3, x4, M =>
    if mk M x1 = 14 then
    if mk M (mR M 2605 x1) = 22 then
    ob (K_J2_size (mR M 2605 x1) M) fun r4 M3 =>
    if r4 ≤ x4 then
      some (.inl (), M3)
    else
      if mk M3 x1 = 14 then
      if mk M3 (mR M3 2605 x1) = 22 then
      ob (K_J2_get (mR M3 2605 x1) x4 M3) fun r10 M9 =>
      if r10 = 0 ∨ mk M9 r10 = 16 then
      if mk M9 r10 = 16 then
      if mI M9 3004 r10 = 0 then
        nm (x4 + 1) fun v16 =>
        KL_X0_varIn_5 n x1 x2 x3 v16 M9
      else
        if mk M9 r10 = 16 then
        if mR M9 3007 r10 = 0 then
          if mk M9 r10 = 16 then
          if mk M9 (mR M9 3003 r10) = 11 then
          ob (K_X11_is (mR M9 3003 r10) 9 M9) fun r22 M21 =>
          if r22 = 0 then
            if mk M21 r10 = 16 then
            ob (K_X16_many r10 M21) fun r28 M27 =>
            if x3 + r28 ≤ x2 then
              if mk M27 r10 = 16 then
              ob (K_X16_many r10 M27) fun r33 M32 =>
              nm (x3 + r33) fun v36 =>
              nm (x4 + 1) fun v37 =>
              KL_X0_varIn_5 n x1 x2 v36 v37 M32
              else none
            else
              if mk M27 r10 = 16 then
              some (.inr (((mI M27 3005 r10) + x2) - x3), M27)
              else none
            else none
          else
            nm (x4 + 1) fun v25 =>
            KL_X0_varIn_5 n x1 x2 x3 v25 M21
          else none
          else none
        else
          nm (x4 + 1) fun v18 =>
          KL_X0_varIn_5 n x1 x2 x3 v18 M9
        else none
      else none
      else none
      else none
      else none
    else none
    else none
def K_X0_varIn (x1 : Nat) (x2 : Int32) (M : CM) : Option (Int32 × CM) :=
  obS (KL_X0_varIn_5 FU x1 x2 0 0 M) (fun r48 M45 => some (r48, M45)) fun q44 M45 =>
  some ((-1), M45)
def KJ_X0_joinOne_73_39 (rec : Int32 → Int32 → Int32 → Nat → Nat → Int32 → CM → Option ((Nat ⊕ (Unit ⊕ Nat)) × CM)) (x1 : Int32) (x2 : Int32) (x3 : Int32) (x4 : Nat) (x5 : Nat) (x6 : Int32) (M : CM) : Option ((Nat ⊕ (Unit ⊕ Nat)) × CM) :=
  if x3 = 0 then
    ob (K_J2_get 99 (x1 / 2) M) fun r37 M36 =>
    if r37 = 0 ∨ mk M36 r37 = 14 then
    ob (K_X0_varIn r37 x2 M36) fun r42 M41 =>
    if mk M41 (mR M 27 1) = 4 then
    obS (K_X3_make (mR M 27 1) 1 r42 0 0 0 M41) (fun w50 M46 =>
        some (.inr (.inr w50), M46))
    fun r47 M46 =>
    ob (K_J2_get 99 (x6 / 2) M46) fun r52 M51 =>
    if r52 = 0 ∨ mk M51 r52 = 14 then
    ob (K_X0_varIn r52 x2 M51) fun r57 M56 =>
    if mk M56 (mR M46 27 1) = 4 then
    obS (K_X3_make (mR M46 27 1) 1 r57 0 0 0 M56) (fun w65 M61 =>
        some (.inr (.inr w65), M61))
    fun r62 M61 =>
    obS (K_X0_equation r47 r62 M61) (fun w70 M66 =>
        some (.inr (.inr w70), M66))
    fun r67 M66 =>
    nm (x6 + 1) fun v71 =>
    rec x1 x2 x3 x4 x5 v71 M66
    else none
    else none
    else none
    else none
  else
    ob (K_J2_get 99 (x6 / 2) M) fun r7 M6 =>
    if r7 = 0 ∨ mk M6 r7 = 14 then
    ob (K_X0_varIn r7 x2 M6) fun r12 M11 =>
    if mk M11 (mR M 27 1) = 4 then
    obS (K_X3_make (mR M 27 1) 1 r12 0 0 0 M11) (fun w20 M16 =>
        some (.inr (.inr w20), M16))
    fun r17 M16 =>
    if x6 - x6 / 2 * 2 = 0 then
      if mk M16 (mR M16 27 1) = 4 then
      obS (K_X3_make_2 (mR M16 27 1) 4 x5 r17 M16) (fun w33 M29 =>
          some (.inr (.inr w33), M29))
      fun r30 M29 =>
      nm (x6 + 1) fun v34 =>
      rec x1 x2 x3 x4 r30 v34 M29
      else none
    else
      if mk M16 (mR M16 27 1) = 4 then
      obS (K_X3_make_2 (mR M16 27 1) 3 x5 r17 M16) (fun w26 M22 =>
          some (.inr (.inr w26), M22))
      fun r23 M22 =>
      nm (x6 + 1) fun v27 =>
      rec x1 x2 x3 x4 r23 v27 M22
      else none
    else none
    else none
def KL_X0_joinOne_39 : Nat → Int32 → Int32 → Int32 → Nat → Nat → Int32 → CM → Option ((Nat ⊕ (Unit ⊕ Nat)) × CM)
  | 0, _, _, _, _, _, _, _ => none
  | n + 1, x1, x2, x3, x4, x5, x6, M =>
    if 2 * (mI M 16 1) ≤ x6 then
      some (.inl x5, M)
    else
      ob (K_X0_top x6 M) fun r2 M1 =>
      if r2 = x1 then
        if x3 = 0 then
          if x6 = x1 then
            nm (x6 + 1) fun v73 =>
            KL_X0_joinOne_39 n x1 x2 x3 x4 x5 v73 M1
          else
            KJ_X0_joinOne_73_39 (KL_X0_joinOne_39 n) x1 x2 x3 x4 x5 x6 M1
        else
          KJ_X0_joinOne_73_39 (KL_X0_joinOne_39 n) x1 x2 x3 x4 x5 x6 M1
      else
        nm (x6 + 1) fun v5 =>
        KL_X0_joinOne_39 n x1 x2 x3 x4 x5 v5 M1
def KJ_X0_joinOne_34 (x1 : Int32) (x2 : Int32) (x3 : Int32) (x4 : Nat) (y0 : Nat) (M : CM) : Option ((Unit ⊕ Nat) × CM) :=
  obS (KL_X0_joinOne_39 FU x1 x2 x3 x4 y0 x1 M) (fun r88 M79 => some (r88, M79)) fun q78 M79 =>
  if x3 = 0 then
    some (.inl (), M79)
  else
    obS (K_X0_equation x4 q78 M79) (fun w85 M81 =>
        some (.inr w85, M81))
    fun r82 M81 =>
    some (.inl (), M81)
def KJ_X0_joinOne_16 (x1 : Int32) (x2 : Int32) (x3 : Int32) (y0 : Nat) (M : CM) : Option ((Unit ⊕ Nat) × CM) :=
  if x3 = 0 then
    KJ_X0_joinOne_34 x1 x2 x3 y0 0 M
  else
    if mk M (mR M 27 1) = 4 then
    obS (K_X3_number (mR M 27 1) 0 M) (fun w94 M90 =>
        some (.inr w94, M90))
    fun r91 M90 =>
    KJ_X0_joinOne_34 x1 x2 x3 y0 r91 M90
    else none
def K_X0_joinOne (x1 : Int32) (x2 : Int32) (x3 : Int32) (M : CM) : Option ((Unit ⊕ Nat) × CM) :=
  if x3 = 0 then
    KJ_X0_joinOne_16 x1 x2 x3 0 M
  else
    if mk M (mR M 27 1) = 4 then
    obS (K_X3_number (mR M 27 1) 0 M) (fun w101 M97 =>
        some (.inr w101, M97))
    fun r98 M97 =>
    KJ_X0_joinOne_16 x1 x2 x3 r98 M97
    else none
def KL_X0_connections_80 : Nat → Int32 → Nat → Int32 → Int32 → CM → Option ((Unit ⊕ (Unit ⊕ Nat)) × CM)
  | 0, _, _, _, _, _ => none
  | n + 1, x1, x2, x3, x4, M =>
    ob (K_X0_varIn x2 x4 M) fun r22 M21 =>
    if r22 < 0 then
      some (.inl (), M21)
    else
      ob (K_X0_varIn x2 x4 M21) fun r26 M25 =>
      if x3 = 0 then
        ob (K_J2_get 98 r26 M25) fun r59 M58 =>
        if r59 = 0 ∨ mk M58 r59 = 17 then
        if mk M58 r59 = 17 then
        obS (K_X0_joinOne x1 x4 (mI M58 3205 r59) M58) (fun w69 M65 =>
            some (.inr (.inr w69), M65))
        fun r66 M65 =>
        nm (x4 + 1) fun v70 =>
        KL_X0_connections_80 n x1 x2 x3 v70 M65
        else none
        else none
      else
        if x1 - x1 / 2 * 2 = 1 then
          ob (K_J2_get 98 r26 M25) fun r31 M30 =>
          if r31 = 0 ∨ mk M30 r31 = 17 then
          if mk M30 r31 = 17 then
          if mI M30 3205 r31 = 0 then
            nm (x4 + 1) fun v37 =>
            KL_X0_connections_80 n x1 x2 x3 v37 M30
          else
            if mk M30 (mR M30 27 1) = 4 then
            obS (K_X3_make (mR M30 27 1) 1 r26 0 0 0 M30) (fun w43 M39 =>
                some (.inr (.inr w43), M39))
            fun r40 M39 =>
            if mk M39 (mR M39 27 1) = 4 then
            obS (K_X3_number (mR M39 27 1) 0 M39) (fun w49 M45 =>
                some (.inr (.inr w49), M45))
            fun r46 M45 =>
            obS (K_X0_equation r40 r46 M45) (fun w54 M50 =>
                some (.inr (.inr w54), M50))
            fun r51 M50 =>
            nm (x4 + 1) fun v55 =>
            KL_X0_connections_80 n x1 x2 x3 v55 M50
            else none
            else none
          else none
          else none
        else
          nm (x4 + 1) fun v29 =>
          KL_X0_connections_80 n x1 x2 x3 v29 M25
def KJ_X0_connections_73_7 (rec : Int32 → CM → Option ((Unit ⊕ (Unit ⊕ Nat)) × CM)) (x1 : Int32) (x2 : Nat) (x3 : Int32) (y0 : Nat) (y1 : Int32) (y2 : Int32) (M : CM) : Option ((Unit ⊕ (Unit ⊕ Nat)) × CM) :=
  if mk M y0 = 1 then
  nm (msI M 43 y0 (y1 + y2)) fun M20 =>
  obS (KL_X0_connections_80 FU x1 x2 x3 0 M20) (fun r78 M74 => some (.inr r78, M74)) fun q73 M74 =>
  nm (x1 + 1) fun v76 =>
  rec v76 M74
  else none
def KL_X0_connections_7 : Nat → Int32 → CM → Option ((Unit ⊕ (Unit ⊕ Nat)) × CM)
  | 0, _, _ => none
  | n + 1, x1, M =>
    if 2 * (mI M 16 1) ≤ x1 then
      some (.inl (), M)
    else
      ob (K_J2_get 99 (x1 / 2) M) fun r3 M2 =>
      if r3 = 0 ∨ mk M2 r3 = 14 then
      if mk M2 r3 = 14 then
      if mk M2 (mR M2 2602 r3) = 10 then
      if mI M2 1801 (mR M2 2602 r3) = 0 then
        nm (x1 + 1) fun v10 =>
        KL_X0_connections_7 n v10 M2
      else
        ob (K_X0_top x1 M2) fun r12 M11 =>
        if r12 = x1 then
          ob (K_X0_isAlone x1 M11) fun r16 M15 =>
          if r16 = 0 then
            KJ_X0_connections_73_7 (KL_X0_connections_7 n) x1 r3 r16 1 (mI M15 43 1) 1 M15
          else
            KJ_X0_connections_73_7 (KL_X0_connections_7 n) x1 r3 r16 1 (mI M15 43 1) 0 M15
        else
          nm (x1 + 1) fun v80 =>
          KL_X0_connections_7 n v80 M11
      else none
      else none
      else none
def K_X0_connections (M : CM) : Option ((Unit ⊕ Nat) × CM) :=
  nm (msI M 43 1 0) fun M1 =>
  obS (KL_X0_connections_7 FU 0 M1) (fun r88 M85 => some (r88, M85)) fun q84 M85 =>
  some (.inl (), M85)
def KB_X0_copy (cf_X0_copy : Nat → CM → Option ((Nat ⊕ Nat) × CM)) (x1 : Nat) (M : CM) : Option ((Nat ⊕ Nat) × CM) :=
  if x1 = 0 then
    some (.inl 0, M)
  else
    if mk M x1 = 18 then
    obS (cf_X0_copy (mR M 3405 x1) M) (fun w6 M2 =>
        some (.inr w6, M2))
    fun r3 M2 =>
    if mk M2 x1 = 18 then
    obS (cf_X0_copy (mR M2 3406 x1) M2) (fun w12 M8 =>
        some (.inr w12, M8))
    fun r9 M8 =>
    if mk M8 x1 = 18 then
    if mk M8 x1 = 18 then
    if mk M8 x1 = 18 then
    obS (cf_X0_copy (mR M8 3407 x1) M8) (fun w20 M16 =>
        some (.inr w20, M16))
    fun r17 M16 =>
    if mk M16 (mR M8 69 1) = 4 then
    obS (K_X3_make (mR M8 69 1) (mI M8 3400 x1) (mI M8 3401 x1) r3 r9 r17 M16) (fun w26 M22 =>
        some (.inr w26, M22))
    fun r23 M22 =>
    if mk M22 x1 = 18 then
    if mk M22 r23 = 18 then
    nm (msI M22 3402 r23 (mI M22 3402 x1)) fun M29 =>
    if mk M29 x1 = 18 then
    if mk M29 r23 = 18 then
    nm (msI M29 3403 r23 (mI M29 3403 x1)) fun M32 =>
    some (.inl r23, M32)
    else none
    else none
    else none
    else none
    else none
    else none
    else none
    else none
    else none
    else none
def KG_X0_copy : Nat → (Nat → CM → Option ((Nat ⊕ Nat) × CM))
  | 0 => (fun _ _ => none)
  | d + 1 => (KB_X0_copy (KG_X0_copy d))
def K_X0_copy : Nat → CM → Option ((Nat ⊕ Nat) × CM) := (KG_X0_copy 300)
def KL_X0_unknownsOf_4 : Nat → Int32 → Int32 → Int32 → CM → Option (Int32 × CM)
  | 0, _, _, _, _ => none
  | n + 1, x1, x2, x3, M =>
    if mI M 57 1 ≤ x3 then
      some (x2, M)
    else
      if inb x3 180 then
      if mA M 123 (ix x3) = x1 then
        nm (x2 + 1) fun v4 =>
        nm (x3 + 1) fun v5 =>
        KL_X0_unknownsOf_4 n x1 v4 v5 M
      else
        nm (x2 + 0) fun v2 =>
        nm (x3 + 1) fun v3 =>
        KL_X0_unknownsOf_4 n x1 v2 v3 M
      else none
def K_X0_unknownsOf (x1 : Int32) (M : CM) : Option (Int32 × CM) :=
  ob (KL_X0_unknownsOf_4 FU x1 0 0 M) fun q8 M9 =>
  some (q8, M9)
