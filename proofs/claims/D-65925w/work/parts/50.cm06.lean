set_option maxRecDepth 100000
def KL_X0_walk_52 (cf_X0_walk : Int32 → CM → Option ((Unit ⊕ Nat) × CM)) : Nat → Int32 → Int32 → CM → Option ((Unit ⊕ (Unit ⊕ Nat)) × CM)
  | 0, _, _, _ => none
  | n + 1, x1, x2, M =>
    if mI M 57 1 ≤ x2 then
      some (.inl (), M)
    else
      if inb ((180 * x1) + x2) 32400 then
      if mA M 132 (ix ((180 * x1) + x2)) = 0 then
        nm (x2 + 1) fun v11 =>
        KL_X0_walk_52 cf_X0_walk n x1 v11 M
      else
        if inb x2 180 then
        if mA M 123 (ix x2) = 2 then
          nm (x2 + 1) fun v47 =>
          KL_X0_walk_52 cf_X0_walk n x1 v47 M
        else
          if inb x2 180 then
          nm (mA M 122 (ix x2)) fun v14 =>
          if inb v14 180 then
          if mA M 145 (ix v14) = 0 then
            obS (cf_X0_walk v14 M) (fun w34 M30 =>
                some (.inr (.inr w34), M30))
            fun r31 M30 =>
            if inb v14 180 then
            if inb x1 180 then
            if mA M30 146 (ix x1) ≤ mA M30 146 (ix v14) then
              if inb x1 180 then
              if inb x1 180 then
              nm (mwA M30 146 (ix x1) (mA M30 146 (ix x1))) fun M39 =>
              nm (x2 + 1) fun v40 =>
              KL_X0_walk_52 cf_X0_walk n x1 v40 M39
              else none
              else none
            else
              if inb v14 180 then
              if inb x1 180 then
              nm (mwA M30 146 (ix x1) (mA M30 146 (ix v14))) fun M43 =>
              nm (x2 + 1) fun v44 =>
              KL_X0_walk_52 cf_X0_walk n x1 v44 M43
              else none
              else none
            else none
            else none
          else
            if inb v14 180 then
            if 0 ≤ mA M 131 (ix v14) then
              nm (x2 + 1) fun v17 =>
              KL_X0_walk_52 cf_X0_walk n x1 v17 M
            else
              if inb v14 180 then
              if inb x1 180 then
              if mA M 146 (ix x1) ≤ mA M 145 (ix v14) then
                if inb x1 180 then
                if inb x1 180 then
                nm (mwA M 146 (ix x1) (mA M 146 (ix x1))) fun M22 =>
                nm (x2 + 1) fun v23 =>
                KL_X0_walk_52 cf_X0_walk n x1 v23 M22
                else none
                else none
              else
                if inb v14 180 then
                if inb x1 180 then
                nm (mwA M 146 (ix x1) (mA M 145 (ix v14))) fun M26 =>
                nm (x2 + 1) fun v27 =>
                KL_X0_walk_52 cf_X0_walk n x1 v27 M26
                else none
                else none
              else none
              else none
            else none
          else none
          else none
        else none
      else none
def KL_X0_walk_218 (cf_X0_walk : Int32 → CM → Option ((Unit ⊕ Nat) × CM)) : Nat → Int32 → Int32 → Int32 → CM → Option (Int32 × CM)
  | 0, _, _, _, _ => none
  | n + 1, x1, x2, x3, M =>
    if x3 = x1 then
      some (x2, M)
    else
      nm (msI M 83 1 ((mI M 83 1) - 1)) fun M56 =>
      if inb (mI M56 83 1) 180 then
      nm (mA M56 147 (ix (mI M56 83 1))) fun v58 =>
      if inb v58 180 then
      nm (mwA M56 131 (ix v58) (mI M56 75 1)) fun M60 =>
      nm (x2 + 1) fun v61 =>
      KL_X0_walk_218 cf_X0_walk n x1 v61 v58 M60
      else none
      else none
def KB_X0_walk (cf_X0_walk : Int32 → CM → Option ((Unit ⊕ Nat) × CM)) (x1 : Int32) (M : CM) : Option ((Unit ⊕ Nat) × CM) :=
  nm (msI M 84 1 ((mI M 84 1) + 1)) fun M1 =>
  if inb x1 180 then
  nm (mwA M1 145 (ix x1) (mI M1 84 1)) fun M3 =>
  if inb x1 180 then
  nm (mwA M3 146 (ix x1) (mI M3 84 1)) fun M5 =>
  if inb (mI M5 83 1) 180 then
  nm (mwA M5 147 (ix (mI M5 83 1)) x1) fun M7 =>
  nm (msI M7 83 1 ((mI M7 83 1) + 1)) fun M8 =>
  obS (KL_X0_walk_52 cf_X0_walk FU x1 0 M8) (fun r79 M52 => some (r79, M52)) fun q51 M52 =>
  if inb x1 180 then
  if inb x1 180 then
  if mA M52 146 (ix x1) = mA M52 145 (ix x1) then
    ob (KL_X0_walk_218 cf_X0_walk FU x1 0 (-1) M52) fun q63 M64 =>
    if q63 ≤ 12 then
      if inb (mI M64 75 1) 181 then
      if inb ((mI M64 75 1) + 1) 181 then
      nm (mwA M64 141 (ix ((mI M64 75 1) + 1)) ((mA M64 141 (ix (mI M64 75 1))) + q63)) fun M68 =>
      nm (msI M68 75 1 ((mI M68 75 1) + 1)) fun M69 =>
      some (.inl (), M69)
      else none
      else none
    else
      ob (K_X0_wrong 55 (mI M64 75 1) M64) fun r71 M70 =>
      if mk M70 r71 = 7 then
      some (.inr r71, M70)
      else none
  else
    some (.inl (), M52)
  else none
  else none
  else none
  else none
  else none
def KG_X0_walk : Nat → (Int32 → CM → Option ((Unit ⊕ Nat) × CM))
  | 0 => (fun _ _ => none)
  | d + 1 => (KB_X0_walk (KG_X0_walk d))
def K_X0_walk : Int32 → CM → Option ((Unit ⊕ Nat) × CM) := (KG_X0_walk 300)
def KL_X0_makeBlocks_6 : Nat → Int32 → CM → Option ((Unit ⊕ (Unit ⊕ Nat)) × CM)
  | 0, _, _ => none
  | n + 1, x1, M =>
    if mI M 65 1 ≤ x1 then
      some (.inl (), M)
    else
      if inb x1 180 then
      if mA M 128 (ix x1) = 0 then
        ob (K_X0_unmark M) fun r9 M8 =>
        ob (K_X0_find_2 x1 2 M8) fun r13 M12 =>
        if r13 = 0 then
          ob (K_X0_wrong 54 x1 M12) fun r18 M17 =>
          if mk M17 r18 = 7 then
          some (.inr (.inr r18), M17)
          else none
        else
          nm (x1 + 1) fun v16 =>
          KL_X0_makeBlocks_6 n v16 M12
      else
        nm (x1 + 1) fun v7 =>
        KL_X0_makeBlocks_6 n v7 M
      else none
def KL_X0_makeBlocks_73 : Nat → Int32 → CM → Option (Unit × CM)
  | 0, _, _ => none
  | n + 1, x1, M =>
    if 180 ≤ x1 then
      some ((), M)
    else
      if inb x1 180 then
      nm (mwA M 145 (ix x1) 0) fun M34 =>
      if inb x1 180 then
      nm (mwA M34 131 (ix x1) (-1)) fun M36 =>
      nm (x1 + 1) fun v37 =>
      KL_X0_makeBlocks_73 n v37 M36
      else none
      else none
def KL_X0_makeBlocks_102 : Nat → Int32 → CM → Option ((Unit ⊕ (Unit ⊕ Nat)) × CM)
  | 0, _, _ => none
  | n + 1, x1, M =>
    if mI M 65 1 ≤ x1 then
      some (.inl (), M)
    else
      if inb x1 180 then
      if mA M 128 (ix x1) = 0 then
        if inb x1 180 then
        if mA M 145 (ix x1) = 0 then
          obS (K_X0_walk x1 M) (fun w51 M47 =>
              some (.inr (.inr w51), M47))
          fun r48 M47 =>
          nm (x1 + 1) fun v52 =>
          KL_X0_makeBlocks_102 n v52 M47
        else
          nm (x1 + 1) fun v46 =>
          KL_X0_makeBlocks_102 n v46 M
        else none
      else
        nm (x1 + 1) fun v44 =>
        KL_X0_makeBlocks_102 n v44 M
      else none
def KL_X0_makeBlocks_141 : Nat → Int32 → CM → Option (Unit × CM)
  | 0, _, _ => none
  | n + 1, x1, M =>
    if mI M 75 1 ≤ x1 then
      some ((), M)
    else
      ob (K_X0_fill x1 M) fun r60 M59 =>
      nm (x1 + 1) fun v63 =>
      KL_X0_makeBlocks_141 n v63 M59
def K_X0_makeBlocks (M : CM) : Option ((Unit ⊕ Nat) × CM) :=
  ob (K_X0_giveNone M) fun r2 M1 =>
  obS (KL_X0_makeBlocks_6 FU 0 M1) (fun r73 M26 => some (r73, M26)) fun q25 M26 =>
  nm (msI M26 75 1 0) fun M28 =>
  if inb 0 181 then
  nm (mwA M28 141 (ix 0) 0) fun M30 =>
  nm (msI M30 83 1 0) fun M31 =>
  nm (msI M31 84 1 0) fun M32 =>
  ob (KL_X0_makeBlocks_73 FU 0 M32) fun q39 M40 =>
  obS (KL_X0_makeBlocks_102 FU 0 M40) (fun r70 M57 => some (r70, M57)) fun q56 M57 =>
  ob (KL_X0_makeBlocks_141 FU 0 M57) fun q65 M66 =>
  some (.inl (), M66)
  else none
def KJ_X0_solvedEx_179 (cf_X0_solvedEx : Nat → CM → Option ((Nat ⊕ Nat) × CM)) (x3 : Nat) (y0 : Nat) (y1 : Int32) (y2 : Int32) (M : CM) : Option ((Nat ⊕ Nat) × CM) :=
  if mk M y0 = 4 then
  obS (K_X3_make y0 y1 y2 0 0 0 M) (fun w68 M64 =>
      some (.inr w68, M64))
  fun r65 M64 =>
  if mk M64 x3 = 17 then
  if 0 ≤ mI M64 3218 x3 then
    some (.inl r65, M64)
  else
    if mk M64 (mR M64 69 1) = 4 then
    obS (K_X3_make_2 (mR M64 69 1) 7 r65 0 M64) (fun w75 M71 =>
        some (.inr w75, M71))
    fun r72 M71 =>
    some (.inl r72, M71)
    else none
  else none
  else none
def KJ_X0_solvedEx_177 (cf_X0_solvedEx : Nat → CM → Option ((Nat ⊕ Nat) × CM)) (x3 : Nat) (x4 : Int32) (y0 : Nat) (y1 : Int32) (M : CM) : Option ((Nat ⊕ Nat) × CM) :=
  KJ_X0_solvedEx_179 cf_X0_solvedEx x3 y0 y1 x4 M
def KJ_X0_solvedEx_153 (cf_X0_solvedEx : Nat → CM → Option ((Nat ⊕ Nat) × CM)) (x1 : Nat) (x3 : Nat) (x4 : Int32) (x5 : Int32) (y0 : Nat) (y1 : Int32) (M : CM) : Option ((Nat ⊕ Nat) × CM) :=
  if mk M x1 = 18 then
  if mI M 3400 x1 = 15 then
    if x5 = 0 then
      if inb x4 180 then
      KJ_X0_solvedEx_179 cf_X0_solvedEx x3 y0 y1 (mA M 121 (ix x4)) M
      else none
    else
      KJ_X0_solvedEx_177 cf_X0_solvedEx x3 x4 y0 y1 M
  else
    KJ_X0_solvedEx_177 cf_X0_solvedEx x3 x4 y0 y1 M
  else none
def KJ_X0_solvedEx_121 (cf_X0_solvedEx : Nat → CM → Option ((Nat ⊕ Nat) × CM)) (x1 : Nat) (x3 : Nat) (x4 : Int32) (y0 : Int32) (M : CM) : Option ((Nat ⊕ Nat) × CM) :=
  if mk M x1 = 18 then
  if mI M 3400 x1 = 16 then
    KJ_X0_solvedEx_153 cf_X0_solvedEx x1 x3 x4 y0 (mR M 69 1) 18 M
  else
    if y0 = 0 then
      KJ_X0_solvedEx_153 cf_X0_solvedEx x1 x3 x4 y0 (mR M 69 1) 17 M
    else
      KJ_X0_solvedEx_153 cf_X0_solvedEx x1 x3 x4 y0 (mR M 69 1) 19 M
  else none
def KJ_X0_solvedEx_120 (cf_X0_solvedEx : Nat → CM → Option ((Nat ⊕ Nat) × CM)) (x1 : Nat) (x3 : Nat) (x4 : Int32) (M : CM) : Option ((Nat ⊕ Nat) × CM) :=
  KJ_X0_solvedEx_121 cf_X0_solvedEx x1 x3 x4 0 M
def KJ_X0_solvedEx_57 (cf_X0_solvedEx : Nat → CM → Option ((Nat ⊕ Nat) × CM)) (x1 : Nat) (y0 : Int32) (M : CM) : Option ((Nat ⊕ Nat) × CM) :=
  if y0 = 0 then
    if mk M x1 = 18 then
    obS (cf_X0_solvedEx (mR M 3405 x1) M) (fun w14 M10 =>
        some (.inr w14, M10))
    fun r11 M10 =>
    if mk M10 x1 = 18 then
    obS (cf_X0_solvedEx (mR M10 3406 x1) M10) (fun w20 M16 =>
        some (.inr w20, M16))
    fun r17 M16 =>
    if mk M16 x1 = 18 then
    obS (cf_X0_solvedEx (mR M16 3407 x1) M16) (fun w26 M22 =>
        some (.inr w26, M22))
    fun r23 M22 =>
    if mk M22 x1 = 18 then
    if mk M22 x1 = 18 then
    if mk M22 (mR M22 69 1) = 4 then
    obS (K_X3_make (mR M22 69 1) (mI M22 3400 x1) (mI M22 3401 x1) r11 r17 r23 M22) (fun w34 M30 =>
        some (.inr w34, M30))
    fun r31 M30 =>
    if mk M30 x1 = 18 then
    if mk M30 r31 = 18 then
    nm (msI M30 3402 r31 (mI M30 3402 x1)) fun M37 =>
    if mk M37 x1 = 18 then
    if mk M37 r31 = 18 then
    nm (msI M37 3403 r31 (mI M37 3403 x1)) fun M40 =>
    if mk M40 r31 = 18 then
    if mI M40 3403 r31 < 0 then
      some (.inl r31, M40)
    else
      if mk M40 r31 = 18 then
      if inb (mI M40 3403 r31) 24 ∧ (r31 = 0 ∨ mk M40 r31 = 18) then
      nm (mwX M40 137 (ix (mI M40 3403 r31)) r31) fun M44 =>
      some (.inl r31, M44)
      else none
      else none
    else none
    else none
    else none
    else none
    else none
    else none
    else none
    else none
    else none
    else none
    else none
  else
    if mk M x1 = 18 then
    ob (K_J2_get 98 (mI M 3401 x1) M) fun r48 M47 =>
    if r48 = 0 ∨ mk M47 r48 = 17 then
    if mk M47 r48 = 17 then
    ob (K_J2_get 98 (mI M47 3217 r48) M47) fun r54 M53 =>
    if r54 = 0 ∨ mk M53 r54 = 17 then
    if mk M53 r54 = 17 then
    nm (mI M53 3219 r54) fun v59 =>
    if mk M53 x1 = 18 then
    if mI M53 3400 x1 = 15 then
      if (mR M53 69 1) ≤ 1099511627775 ∧ 135 ≤ 1099511627775 then
      if mR M53 69 1 = 135 then
        KJ_X0_solvedEx_121 cf_X0_solvedEx x1 r48 v59 1 M53
      else
        KJ_X0_solvedEx_120 cf_X0_solvedEx x1 r48 v59 M53
      else none
    else
      KJ_X0_solvedEx_120 cf_X0_solvedEx x1 r48 v59 M53
    else none
    else none
    else none
    else none
    else none
    else none
def KJ_X0_solvedEx_56 (cf_X0_solvedEx : Nat → CM → Option ((Nat ⊕ Nat) × CM)) (x1 : Nat) (M : CM) : Option ((Nat ⊕ Nat) × CM) :=
  KJ_X0_solvedEx_57 cf_X0_solvedEx x1 0 M
def KJ_X0_solvedEx_32 (cf_X0_solvedEx : Nat → CM → Option ((Nat ⊕ Nat) × CM)) (x1 : Nat) (M : CM) : Option ((Nat ⊕ Nat) × CM) :=
  if mk M x1 = 18 then
  ob (K_J2_get 98 (mI M 3401 x1) M) fun r4 M3 =>
  if r4 = 0 ∨ mk M3 r4 = 17 then
  if mk M3 r4 = 17 then
  if mI M3 3203 r4 = 0 then
    KJ_X0_solvedEx_57 cf_X0_solvedEx x1 1 M3
  else
    KJ_X0_solvedEx_56 cf_X0_solvedEx x1 M3
  else none
  else none
  else none
def KB_X0_solvedEx (cf_X0_solvedEx : Nat → CM → Option ((Nat ⊕ Nat) × CM)) (x1 : Nat) (M : CM) : Option ((Nat ⊕ Nat) × CM) :=
  if x1 = 0 then
    some (.inl 0, M)
  else
    if mk M x1 = 18 then
    if mI M 3400 x1 = 1 then
      KJ_X0_solvedEx_32 cf_X0_solvedEx x1 M
    else
      if mk M x1 = 18 then
      if mI M 3400 x1 = 15 then
        KJ_X0_solvedEx_32 cf_X0_solvedEx x1 M
      else
        if mk M x1 = 18 then
        if mI M 3400 x1 = 16 then
          KJ_X0_solvedEx_32 cf_X0_solvedEx x1 M
        else
          KJ_X0_solvedEx_56 cf_X0_solvedEx x1 M
        else none
      else none
    else none
def KG_X0_solvedEx : Nat → (Nat → CM → Option ((Nat ⊕ Nat) × CM))
  | 0 => (fun _ _ => none)
  | d + 1 => (KB_X0_solvedEx (KG_X0_solvedEx d))
def K_X0_solvedEx : Nat → CM → Option ((Nat ⊕ Nat) × CM) := (KG_X0_solvedEx 300)
def KJ_X0_makeEquations_78_29 (rec : Int32 → CM → Option ((Unit ⊕ (Unit ⊕ Nat)) × CM)) (x1 : Int32) (x2 : Int32) (y0 : Nat) (M : CM) : Option ((Unit ⊕ (Unit ⊕ Nat)) × CM) :=
  if x2 = 0 then
    ob (K_J2_get 111 x1 M) fun r27 M26 =>
    if r27 = 0 ∨ mk M26 r27 = 19 then
    if mk M26 r27 = 19 then
    obS (K_X0_solvedEx (mR M26 3601 r27) M26) (fun w36 M32 =>
        some (.inr (.inr w36), M32))
    fun r33 M32 =>
    obS (K_X0_newEquation y0 r33 (-1) x1 M32) (fun w41 M37 =>
        some (.inr (.inr w41), M37))
    fun r38 M37 =>
    if inb x1 180 then
    nm (mwA M37 128 (ix x1) (nZ x2)) fun M43 =>
    nm (x1 + 1) fun v44 =>
    rec v44 M43
    else none
    else none
    else none
  else
    obS (K_X0_newEquation y0 0 (-1) x1 M) (fun w49 M45 =>
        some (.inr (.inr w49), M45))
    fun r46 M45 =>
    if inb x1 180 then
    nm (mwA M45 128 (ix x1) (nZ x2)) fun M51 =>
    nm (x1 + 1) fun v52 =>
    rec v52 M51
    else none
def KL_X0_makeEquations_29 : Nat → Int32 → CM → Option ((Unit ⊕ (Unit ⊕ Nat)) × CM)
  | 0, _, _ => none
  | n + 1, x1, M =>
    if mI M 35 1 ≤ x1 then
      some (.inl (), M)
    else
      if inb x1 180 then
      nm (mA M 128 (ix x1)) fun v13 =>
      nm (msI M 605 133 x1) fun M14 =>
      if v13 = 0 then
        ob (K_J2_get 111 x1 M14) fun r16 M15 =>
        if r16 = 0 ∨ mk M15 r16 = 19 then
        if mk M15 r16 = 19 then
        obS (K_X0_solvedEx (mR M15 3600 r16) M15) (fun w25 M21 =>
            some (.inr (.inr w25), M21))
        fun r22 M21 =>
        KJ_X0_makeEquations_78_29 (KL_X0_makeEquations_29 n) x1 v13 r22 M21
        else none
        else none
      else
        KJ_X0_makeEquations_78_29 (KL_X0_makeEquations_29 n) x1 v13 0 M14
      else none
def KL_X0_makeEquations_136 : Nat → Int32 → CM → Option ((Unit ⊕ (Unit ⊕ Nat)) × CM)
  | 0, _, _ => none
  | n + 1, x1, M =>
    if mI M 39 1 ≤ x1 then
      some (.inl (), M)
    else
      ob (K_J2_get 113 x1 M) fun r61 M60 =>
      if r61 = 0 ∨ mk M60 r61 = 20 then
      ob (K_J2_get 113 x1 M60) fun r66 M65 =>
      if r66 = 0 ∨ mk M65 r66 = 20 then
      if mk M65 r66 = 20 then
      obS (K_X0_solvedEx (mR M65 3800 r66) M65) (fun w75 M71 =>
          some (.inr (.inr w75), M71))
      fun r72 M71 =>
      if mk M71 r61 = 20 then
      nm (msR M71 3801 r61 r72) fun M77 =>
      nm (x1 + 1) fun v78 =>
      KL_X0_makeEquations_136 n v78 M77
      else none
      else none
      else none
      else none
def KJ_X0_makeEquations_260_184 (rec : Int32 → CM → Option ((Unit ⊕ (Unit ⊕ Nat)) × CM)) (x1 : Int32) (x2 : Nat) (x3 : Nat) (y0 : Nat) (y1 : Int32) (M : CM) : Option ((Unit ⊕ (Unit ⊕ Nat)) × CM) :=
  if mk M y0 = 21 then
  nm (msI M 4004 y0 y1) fun M105 =>
  if mk M105 x2 = 21 then
  if mI M105 4000 x2 = 0 then
    if mk M105 x2 = 21 then
    if mk M105 x2 = 21 then
    nm (msR M105 4003 x2 (mR M105 4003 x2)) fun M110 =>
    nm (x1 + 1) fun v111 =>
    rec v111 M110
    else none
    else none
  else
    if mk M105 x3 = 17 then
    if 0 ≤ mI M105 3218 x3 then
      if mk M105 x2 = 21 then
      if mk M105 x2 = 21 then
      nm (msR M105 4003 x2 (mR M105 4003 x2)) fun M115 =>
      nm (x1 + 1) fun v116 =>
      rec v116 M115
      else none
      else none
    else
      if mk M105 x2 = 21 then
      if mk M105 (mR M105 69 1) = 4 then
      obS (K_X3_make_2 (mR M105 69 1) 7 (mR M105 4003 x2) 0 M105) (fun w123 M119 =>
          some (.inr (.inr w123), M119))
      fun r120 M119 =>
      if mk M119 x2 = 21 then
      nm (msR M119 4003 x2 r120) fun M125 =>
      nm (x1 + 1) fun v126 =>
      rec v126 M125
      else none
      else none
      else none
    else none
  else none
  else none
def KL_X0_makeEquations_184 : Nat → Int32 → CM → Option ((Unit ⊕ (Unit ⊕ Nat)) × CM)
  | 0, _, _ => none
  | n + 1, x1, M =>
    if mI M 37 1 ≤ x1 then
      some (.inl (), M)
    else
      ob (K_J2_get 112 x1 M) fun r84 M83 =>
      if r84 = 0 ∨ mk M83 r84 = 21 then
      if mk M83 r84 = 21 then
      obS (K_X0_solvedEx (mR M83 4002 r84) M83) (fun w93 M89 =>
          some (.inr (.inr w93), M89))
      fun r90 M89 =>
      if mk M89 r84 = 21 then
      nm (msR M89 4003 r84 r90) fun M95 =>
      if mk M95 r84 = 21 then
      ob (K_J2_get 98 (mI M95 4001 r84) M95) fun r98 M97 =>
      if r98 = 0 ∨ mk M97 r98 = 17 then
      if mk M97 r84 = 21 then
      if mI M97 4000 r84 = 0 then
        KJ_X0_makeEquations_260_184 (KL_X0_makeEquations_184 n) x1 r84 r98 r84 (-1) M97
      else
        if mk M97 r98 = 17 then
        ob (K_J2_get 98 (mI M97 3217 r98) M97) fun r131 M130 =>
        if r131 = 0 ∨ mk M130 r131 = 17 then
        if mk M130 r131 = 17 then
        KJ_X0_makeEquations_260_184 (KL_X0_makeEquations_184 n) x1 r84 r98 r84 (mI M130 3219 r131) M130
        else none
        else none
        else none
      else none
      else none
      else none
      else none
      else none
      else none
def K_X0_makeEquations (M : CM) : Option ((Unit ⊕ Nat) × CM) :=
  ob (K_X3_clear 133 M) fun r2 M1 =>
  ob (K_X3_clear 135 M1) fun r6 M5 =>
  nm (msR M5 69 1 133) fun M9 =>
  nm (msI M9 65 1 0) fun M10 =>
  obS (KL_X0_makeEquations_29 FU 0 M10) (fun r147 M57 => some (r147, M57)) fun q56 M57 =>
  nm (msR M57 69 1 135) fun M59 =>
  obS (KL_X0_makeEquations_136 FU 0 M59) (fun r145 M81 => some (r145, M81)) fun q80 M81 =>
  obS (KL_X0_makeEquations_184 FU 0 M81) (fun r143 M139 => some (r143, M139)) fun q138 M139 =>
  nm (msR M139 69 1 133) fun M141 =>
  some (.inl (), M141)
def KL_X0_makeUnknowns_9 : Nat → Int32 → Int32 → CM → Option ((Int32 ⊕ (Unit ⊕ Nat)) × CM)
  | 0, _, _, _ => none
  | n + 1, x1, x2, M =>
    if mI M 15 1 ≤ x2 then
      some (.inl x1, M)
    else
      ob (K_J2_get 98 x2 M) fun r3 M2 =>
      if r3 = 0 ∨ mk M2 r3 = 17 then
      if mk M2 r3 = 17 then
      if mI M2 3203 r3 = 0 then
        ob (K_J2_get 98 x2 M2) fun r10 M9 =>
        if r10 = 0 ∨ mk M9 r10 = 17 then
        if mk M9 r10 = 17 then
        if mI M9 3217 r10 = x2 then
          ob (K_X0_isInAny x2 0 M9) fun r17 M16 =>
          if r17 = 0 then
            ob (K_X0_wrong 50 x2 M16) fun r35 M34 =>
            if mk M34 r35 = 7 then
            some (.inr (.inr r35), M34)
            else none
          else
            ob (K_J2_get 98 x2 M16) fun r21 M20 =>
            if r21 = 0 ∨ mk M20 r21 = 17 then
            obS (K_X0_newUnknown x2 0 0 M20) (fun w29 M25 =>
                some (.inr (.inr w29), M25))
            fun r26 M25 =>
            if mk M25 r21 = 17 then
            nm (msI M25 3219 r21 r26) fun M31 =>
            nm (x1 + 1) fun v32 =>
            nm (x2 + 1) fun v33 =>
            KL_X0_makeUnknowns_9 n v32 v33 M31
            else none
            else none
        else
          nm (x2 + 1) fun v15 =>
          KL_X0_makeUnknowns_9 n x1 v15 M9
        else none
        else none
      else
        nm (x2 + 1) fun v8 =>
        KL_X0_makeUnknowns_9 n x1 v8 M2
      else none
      else none
def KL_X0_makeUnknowns_130 : Nat → Int32 → CM → Option ((Unit ⊕ (Unit ⊕ Nat)) × CM)
  | 0, _, _ => none
  | n + 1, x2, M =>
    if mI M 15 1 ≤ x2 then
      some (.inl (), M)
    else
      ob (K_J2_get 98 x2 M) fun r47 M46 =>
      if r47 = 0 ∨ mk M46 r47 = 17 then
      if mk M46 r47 = 17 then
      nm (mI M46 3219 r47) fun v52 =>
      if v52 < 0 then
        nm (x2 + 1) fun v53 =>
        KL_X0_makeUnknowns_130 n v53 M46
      else
        ob (K_X0_isInAny x2 1 M46) fun r55 M54 =>
        if r55 = 0 then
          nm (x2 + 1) fun v58 =>
          KL_X0_makeUnknowns_130 n v58 M54
        else
          obS (K_X0_newUnknown x2 1 0 M54) (fun w63 M59 =>
              some (.inr (.inr w63), M59))
          fun r60 M59 =>
          if inb v52 180 then
          nm (mwA M59 121 (ix v52) r60) fun M65 =>
          nm (x2 + 1) fun v66 =>
          KL_X0_makeUnknowns_130 n v66 M65
          else none
      else none
      else none
def K_X0_makeUnknowns (M : CM) : Option ((Unit ⊕ Nat) × CM) :=
  nm (msI M 57 1 0) fun M1 =>
  obS (KL_X0_makeUnknowns_9 FU 0 0 M1) (fun r82 M44 => some (r82, M44)) fun q43 M44 =>
  if q43 = (mI M44 35 1) - (mI M44 66 1) then
    obS (KL_X0_makeUnknowns_130 FU 0 M44) (fun r74 M71 => some (r74, M71)) fun q70 M71 =>
    some (.inl (), M71)
  else
    ob (K_X0_wrong 51 (((mI M44 35 1) - (mI M44 66 1)) - q43) M44) fun r76 M75 =>
    if mk M75 r76 = 7 then
    some (.inr r76, M75)
    else none
def KL_X0_memberOf_5 : Nat → Int32 → Int32 → Int32 → Int32 → CM → Option ((Unit ⊕ Int32) × CM)
  | 0, _, _, _, _, _ => none
  | n + 1, x1, x2, x3, x4, M =>
    if 2 * (mI M 16 1) ≤ x4 then
      some (.inl (), M)
    else
      ob (K_X0_top x4 M) fun r2 M1 =>
      if r2 = x1 then
        if x3 = x2 then
          some (.inr x4, M1)
        else
          nm (x3 + 1) fun v6 =>
          nm (x4 + 1) fun v7 =>
          KL_X0_memberOf_5 n x1 x2 v6 v7 M1
      else
        nm (x4 + 1) fun v5 =>
        KL_X0_memberOf_5 n x1 x2 x3 v5 M1
def K_X0_memberOf (x1 : Int32) (x2 : Int32) (M : CM) : Option (Int32 × CM) :=
  obS (KL_X0_memberOf_5 FU x1 x2 0 x1 M) (fun r15 M12 => some (r15, M12)) fun q11 M12 =>
  some ((-2), M12)
def KL_X0_member_15 : Nat → Int32 → Int32 → Int32 → Int32 → CM → Option ((Unit ⊕ Int32) × CM)
  | 0, _, _, _, _, _ => none
  | n + 1, x1, x2, x3, x4, M =>
    if 2 * (mI M 16 1) ≤ x4 then
      some (.inl (), M)
    else
      ob (K_J2_get 99 (x4 / 2) M) fun r3 M2 =>
      if r3 = 0 ∨ mk M2 r3 = 14 then
      if mk M2 r3 = 14 then
      if mk M2 (mR M2 2602 r3) = 10 then
      if mI M2 1801 (mR M2 2602 r3) = 0 then
        nm (x4 + 1) fun v10 =>
        KL_X0_member_15 n x1 x2 x3 v10 M2
      else
        ob (K_X0_top x4 M2) fun r12 M11 =>
        if r12 = x4 then
          ob (K_X0_isAlone x4 M11) fun r17 M16 =>
          if r17 = 0 then
            if x3 = x1 then
              ob (K_X0_memberOf x4 x2 M16) fun r23 M22 =>
              some (.inr r23, M22)
            else
              nm (x3 + 1) fun v20 =>
              nm (x4 + 1) fun v21 =>
              KL_X0_member_15 n x1 x2 v20 v21 M16
          else
            nm (x4 + 1) fun v27 =>
            KL_X0_member_15 n x1 x2 x3 v27 M16
        else
          nm (x4 + 1) fun v15 =>
          KL_X0_member_15 n x1 x2 x3 v15 M11
      else none
      else none
      else none
def K_X0_member (x1 : Int32) (x2 : Int32) (M : CM) : Option (Int32 × CM) :=
  if mI M 30 1 = 0 then
    some ((-4), M)
  else
    obS (KL_X0_member_15 FU x1 x2 0 0 M) (fun r36 M33 => some (r36, M33)) fun q32 M33 =>
    some ((-2), M33)
def K_X0_method (x1 : Int32) (x2 : Int32) (M : CM) : Option (Int32 × CM) :=
  if x1 < 0 then
    some ((-1), M)
  else
    if 3 < x1 then
      some ((-1), M)
    else
      if x2 < 1 then
        some ((-1), M)
      else
        if x2 ≤ 6553600 then
          nm (msI M 93 1 x1) fun M1 =>
          nm (msI M1 94 1 x2) fun M2 =>
          some (0, M2)
        else
          some ((-1), M)
def K_X0_put (x1 : Int32) (M : CM) : Option (Unit × CM) :=
  if 500 ≤ mI M 3 1 then
    some ((), M)
  else
    if inb (mI M 3 1) 500 then
    nm (mwA M 3 (ix (mI M 3 1)) (nB (nB (x1)))) fun M2 =>
    nm (msI M2 3 1 ((mI M2 3 1) + 1)) fun M3 =>
    some ((), M3)
    else none
def KB_X0_putNumber (cf_X0_putNumber : Int32 → CM → Option (Unit × CM)) (x1 : Int32) (M : CM) : Option (Unit × CM) :=
  if 0 ≤ x1 then
    if x1 ≤ 9 then
      ob (K_X0_put (48 + (x1 - x1 / 10 * 10)) M) fun r2 M1 =>
      some ((), M1)
    else
      ob (cf_X0_putNumber (x1 / 10) M) fun r6 M5 =>
      ob (K_X0_put (48 + (x1 - x1 / 10 * 10)) M5) fun r10 M9 =>
      some ((), M9)
  else
    ob (K_X0_put 45 M) fun r15 M14 =>
    ob (cf_X0_putNumber (-x1) M14) fun r19 M18 =>
    some ((), M18)
def KG_X0_putNumber : Nat → (Int32 → CM → Option (Unit × CM))
  | 0 => (fun _ _ => none)
  | d + 1 => (KB_X0_putNumber (KG_X0_putNumber d))
def K_X0_putNumber : Int32 → CM → Option (Unit × CM) := (KG_X0_putNumber 300)
def KL_X0_putStep_2 : Nat → Int32 → Int32 → Int32 → CM → Option (Unit × CM)
  | 0, _, _, _, _ => none
  | n + 1, x1, x2, x3, M =>
    ob (K_X1_length x1 M) fun r2 M1 =>
    if r2 ≤ x3 then
      some ((), M1)
    else
      ob (K_X1_letter x1 x3 M1) fun r6 M5 =>
      ob (K_X0_put r6 M5) fun r10 M9 =>
      nm (x3 + 1) fun v13 =>
      KL_X0_putStep_2 n x1 x2 v13 M9
def K_X0_putStep (x1 : Int32) (x2 : Int32) (M : CM) : Option (Unit × CM) :=
  ob (KL_X0_putStep_2 FU x1 x2 0 M) fun q15 M16 =>
  if x2 ≤ 0 then
    some ((), M16)
  else
    ob (K_X0_put 91 M16) fun r19 M18 =>
    ob (K_X0_putNumber x2 M18) fun r23 M22 =>
    ob (K_X0_put 93 M22) fun r27 M26 =>
    some ((), M26)
def KB_X0_putPath (cf_X0_putPath : Nat → CM → Option (Unit × CM)) (x1 : Nat) (M : CM) : Option (Unit × CM) :=
  if mk M x1 = 14 then
  if mR M 2601 x1 = 0 then
    some ((), M)
  else
    if mk M x1 = 14 then
    ob (cf_X0_putPath (mR M 2601 x1) M) fun r4 M3 =>
    if mk M3 x1 = 14 then
    if mk M3 x1 = 14 then
    ob (K_X0_putStep (mI M3 2603 x1) (mI M3 2604 x1) M3) fun r10 M9 =>
    ob (K_X0_put 46 M9) fun r14 M13 =>
    some ((), M13)
    else none
    else none
    else none
  else none
def KG_X0_putPath : Nat → (Nat → CM → Option (Unit × CM))
  | 0 => (fun _ _ => none)
  | d + 1 => (KB_X0_putPath (KG_X0_putPath d))
def K_X0_putPath : Nat → CM → Option (Unit × CM) := (KG_X0_putPath 300)
def K_X0_putName (x1 : Int32) (M : CM) : Option (Unit × CM) :=
  ob (K_J2_get 98 x1 M) fun r2 M1 =>
  if r2 = 0 ∨ mk M1 r2 = 17 then
  if mk M1 r2 = 17 then
  ob (K_X0_putPath (mR M1 3200 r2) M1) fun r8 M7 =>
  ob (K_J2_get 98 x1 M7) fun r12 M11 =>
  if r12 = 0 ∨ mk M11 r12 = 17 then
  if mk M11 r12 = 17 then
  ob (K_J2_get 98 x1 M11) fun r18 M17 =>
  if r18 = 0 ∨ mk M17 r18 = 17 then
  if mk M17 r18 = 17 then
  ob (K_X0_putStep (mI M11 3201 r12) (mI M17 3202 r18) M17) fun r24 M23 =>
  some ((), M23)
  else none
  else none
  else none
  else none
  else none
  else none
def K_X0_name (x1 : Int32) (M : CM) : Option (Int32 × CM) :=
  if mI M 30 1 = 0 then
    some ((-4), M)
  else
    if x1 < 0 then
      some ((-2), M)
    else
      if x1 < mI M 15 1 then
        nm (msI M 3 1 0) fun M2 =>
        ob (K_X0_putName x1 M2) fun r4 M3 =>
        some (mI M3 3 1, M3)
      else
        some ((-2), M)
def KL_X0_nextSample_6 : Nat → Int64 → Int32 → CM → Option (Int64 × CM)
  | 0, _, _, _ => none
  | n + 1, x1, x3, M =>
    if mI M 41 1 ≤ x3 then
      some (x1, M)
    else
      if inb x3 24 then
      nm (mX M 137 (ix x3)) fun v2 =>
      if mk M v2 = 18 then
      if mI M 3400 v2 = 29 then
        if mk M v2 = 18 then
        if mI M 3401 v2 ≤ mI M 85 1 then
          if mk M v2 = 18 then
          if mk M v2 = 18 then
          if mk M v2 = 18 then
          if ¬ ((mI M 3402 v2).toInt64) = 0 then
          if mk M v2 = 18 then
          nm (((mI M 3401 v2).toInt64) + ((((((mI M 85 1).toInt64) - ((mI M 3401 v2).toInt64)) / ((mI M 3402 v2).toInt64)) + 1) * ((mI M 3402 v2).toInt64))) fun v11 =>
          if 0 ≤ lg_cmp v11 x1 then
            nm (x3 + 1) fun v12 =>
            KL_X0_nextSample_6 n x1 v12 M
          else
            nm (x3 + 1) fun v13 =>
            KL_X0_nextSample_6 n v11 v13 M
          else none
          else none
          else none
          else none
          else none
        else
          if mk M v2 = 18 then
          nm ((mI M 3401 v2).toInt64) fun v16 =>
          if 0 ≤ lg_cmp v16 x1 then
            nm (x3 + 1) fun v17 =>
            KL_X0_nextSample_6 n x1 v17 M
          else
            nm (x3 + 1) fun v18 =>
            KL_X0_nextSample_6 n v16 v18 M
          else none
        else none
      else
        nm (x3 + 1) fun v4 =>
        KL_X0_nextSample_6 n x1 v4 M
      else none
      else none
def K_X0_nextSample (M : CM) : Option (Int64 × CM) :=
  ob (KL_X0_nextSample_6 FU 9223372036854775807 0 M) fun q23 M24 =>
  some (q23, M24)
def K_X0_octet (x1 : Int32) (M : CM) : Option (Int32 × CM) :=
  if x1 = (-1) then
    some (mI M 3 1, M)
  else
    if x1 < 0 then
      some ((-2), M)
    else
      if x1 < mI M 3 1 then
        if inb x1 500 then
        some (mA M 3 (ix x1), M)
        else none
      else
        some ((-2), M)
def KL_X0_slopes_8 : Nat → Int32 → Nat → Nat → Int32 → CM → Option ((Unit ⊕ (Unit ⊕ Nat)) × CM)
  | 0, _, _, _, _, _ => none
  | n + 1, x2, x3, x4, x5, M =>
    if mI M 74 1 ≤ x5 then
      some (.inl (), M)
    else
      if inb x5 180 then
      if x3 = 0 then
        if inb x5 180 then
        if inb (mA M 140 (ix x5)) 180 then
        nm (mwA M 124 (ix (mA M 140 (ix x5))) (mA M 158 (ix x5))) fun M20 =>
        nm (x5 + 1) fun v21 =>
        KL_X0_slopes_8 n x2 x3 x4 v21 M20
        else none
        else none
      else
        if inb x5 180 then
        if mk M x3 = 50 ∧ inb x5 (ml M x3) then
        obS (K_X19_times x2 (mA M x3 (ix x5)) M) (fun w9 M5 =>
            some (.inr (.inr w9), M5))
        fun r6 M5 =>
        obS (K_X19_in (((mA M 158 (ix x5)).toInt64) + ((r6).toInt64)) M5) (fun w14 M10 =>
            some (.inr (.inr w14), M10))
        fun r11 M10 =>
        if inb (mA M 140 (ix x5)) 180 then
        nm (mwA M10 124 (ix (mA M 140 (ix x5))) r11) fun M16 =>
        nm (x5 + 1) fun v17 =>
        KL_X0_slopes_8 n x2 x3 x4 v17 M16
        else none
        else none
        else none
      else none
def KL_X0_slopes_77 : Nat → Nat → Int32 → CM → Option (Unit × CM)
  | 0, _, _, _ => none
  | n + 1, x4, x5, M =>
    if mI M 74 1 ≤ x5 then
      some ((), M)
    else
      if inb x5 180 then
      if inb (mA M 140 (ix x5)) 180 then
      if inb (mA M 121 (ix (mA M 140 (ix x5)))) 180 then
      if mk M x4 = 50 ∧ inb x5 (ml M x4) then
      nm (mwA M x4 (ix x5) (mA M 124 (ix (mA M 121 (ix (mA M 140 (ix x5))))))) fun M36 =>
      nm (x5 + 1) fun v37 =>
      KL_X0_slopes_77 n x4 v37 M36
      else none
      else none
      else none
      else none
def K_X0_slopes (x1 : Int32) (x2 : Int32) (x3 : Nat) (x4 : Nat) (M : CM) : Option ((Unit ⊕ Nat) × CM) :=
  nm (msI M 85 1 x1) fun M1 =>
  obS (KL_X0_slopes_8 FU x2 x3 x4 0 M1) (fun r44 M25 => some (r44, M25)) fun q24 M25 =>
  obS (K_X0_solveBlocks M25) (fun w31 M27 =>
      some (.inr w31, M27))
  fun r28 M27 =>
  ob (KL_X0_slopes_77 FU x4 0 M27) fun q39 M40 =>
  some (.inl (), M40)
def KL_X0_sum_2 : Nat → Nat → Nat → Int32 → CM → Option ((Unit ⊕ (Unit ⊕ Nat)) × CM)
  | 0, _, _, _, _ => none
  | n + 1, x1, x2, x3, M =>
    if mI M 74 1 ≤ x3 then
      some (.inl (), M)
    else
      if mk M x1 = 50 ∧ inb x3 (ml M x1) then
      if mk M x2 = 50 ∧ inb x3 (ml M x2) then
      if mk M x2 = 50 ∧ inb x3 (ml M x2) then
      obS (K_X19_in (((mA M x2 (ix x3)).toInt64) + ((mA M x2 (ix x3)).toInt64)) M) (fun w8 M4 =>
          some (.inr (.inr w8), M4))
      fun r5 M4 =>
      obS (K_X19_in (((mA M x1 (ix x3)).toInt64) + ((r5).toInt64)) M4) (fun w13 M9 =>
          some (.inr (.inr w13), M9))
      fun r10 M9 =>
      if mk M9 x1 = 50 ∧ inb x3 (ml M9 x1) then
      nm (mwA M9 x1 (ix x3) r10) fun M15 =>
      nm (x3 + 1) fun v16 =>
      KL_X0_sum_2 n x1 x2 v16 M15
      else none
      else none
      else none
      else none
def K_X0_sum (x1 : Nat) (x2 : Nat) (M : CM) : Option ((Unit ⊕ Nat) × CM) :=
  obS (KL_X0_sum_2 FU x1 x2 0 M) (fun r22 M19 => some (r22, M19)) fun q18 M19 =>
  some (.inl (), M19)
def KL_X0_step_12 : Nat → Int32 → Int32 → Int32 → CM → Option (Unit × CM)
  | 0, _, _, _, _ => none
  | n + 1, x1, x2, x3, M =>
    if mI M 74 1 ≤ x3 then
      some ((), M)
    else
      if inb x3 180 then
      if inb (mA M 140 (ix x3)) 180 then
      if inb x3 180 then
      nm (mwA M 158 (ix x3) (mA M 124 (ix (mA M 140 (ix x3))))) fun M6 =>
      nm (x3 + 1) fun v7 =>
      KL_X0_step_12 n x1 x2 v7 M6
      else none
      else none
      else none
def KL_X0_step_304 : Nat → Int32 → Int32 → CM → Option ((Unit ⊕ (Unit ⊕ Nat)) × CM)
  | 0, _, _, _ => none
  | n + 1, x1, x3, M =>
    if mI M 74 1 ≤ x3 then
      some (.inl (), M)
    else
      if inb x3 180 then
      obS (K_X19_times x1 (mA M 159 (ix x3)) M) (fun w24 M20 =>
          some (.inr (.inr w24), M20))
      fun r21 M20 =>
      if inb x3 180 then
      if inb x3 180 then
      if mI M20 93 1 = 2 then
        obS (K_X19_over r21 393216 M20) (fun w39 M35 =>
            some (.inr (.inr w39), M35))
        fun r36 M35 =>
        obS (K_X19_in (((mA M20 158 (ix x3)).toInt64) + ((r36).toInt64)) M35) (fun w44 M40 =>
            some (.inr (.inr w44), M40))
        fun r41 M40 =>
        if inb (mA M20 140 (ix x3)) 180 then
        nm (mwA M40 124 (ix (mA M20 140 (ix x3))) r41) fun M46 =>
        nm (x3 + 1) fun v47 =>
        KL_X0_step_304 n x1 v47 M46
        else none
      else
        obS (K_X19_in (((mA M20 158 (ix x3)).toInt64) + ((r21).toInt64)) M20) (fun w31 M27 =>
            some (.inr (.inr w31), M27))
        fun r28 M27 =>
        if inb (mA M20 140 (ix x3)) 180 then
        nm (mwA M27 124 (ix (mA M20 140 (ix x3))) r28) fun M33 =>
        nm (x3 + 1) fun v34 =>
        KL_X0_step_304 n x1 v34 M33
        else none
      else none
      else none
      else none
def KJ_X0_step_295 (x1 : Int32) (x2 : Int32) (M : CM) : Option ((Unit ⊕ Nat) × CM) :=
  nm (msI M 85 1 (x2 + x1)) fun M18 =>
  obS (KL_X0_step_304 FU x1 0 M18) (fun r59 M51 => some (r59, M51)) fun q50 M51 =>
  obS (K_X0_solveBlocks M51) (fun w57 M53 =>
      some (.inr w57, M53))
  fun r54 M53 =>
  some (.inl (), M53)
def KL_X0_step_213 : Nat → Int32 → Int32 → Int32 → CM → Option ((Unit ⊕ (Unit ⊕ Nat)) × CM)
  | 0, _, _, _, _ => none
  | n + 1, x1, x2, x3, M =>
    if mI M 74 1 ≤ x3 then
      some (.inl (), M)
    else
      if inb x3 180 then
      if inb x3 180 then
      obS (K_X19_in (((mA M 159 (ix x3)).toInt64) + ((mA M 162 (ix x3)).toInt64)) M) (fun w108 M104 =>
          some (.inr (.inr w108), M104))
      fun r105 M104 =>
      if inb x3 180 then
      nm (mwA M104 159 (ix x3) r105) fun M110 =>
      nm (x3 + 1) fun v111 =>
      KL_X0_step_213 n x1 x2 v111 M110
      else none
      else none
      else none
def KL_X0_step_267 : Nat → Int32 → Int32 → Int32 → CM → Option ((Unit ⊕ (Unit ⊕ Nat)) × CM)
  | 0, _, _, _, _ => none
  | n + 1, x1, x2, x3, M =>
    if 8 ≤ x3 then
      some (.inl (), M)
    else
      obS (K_X0_slopes (x2 + x1) x1 159 159 M) (fun w127 M123 =>
          some (.inr (.inr w127), M123))
      fun r124 M123 =>
      nm (x3 + 1) fun v128 =>
      KL_X0_step_267 n x1 x2 v128 M123
def K_X0_step (x1 : Int32) (M : CM) : Option ((Unit ⊕ Nat) × CM) :=
  nm (mI M 85 1) fun v1 =>
  nm (msI M 86 1 1) fun M2 =>
  ob (KL_X0_step_12 FU x1 v1 0 M2) fun q9 M10 =>
  if mI M10 93 1 = 0 then
    obS (K_X0_slopes v1 0 0 159 M10) (fun w17 M13 =>
        some (.inr w17, M13))
    fun r14 M13 =>
    KJ_X0_step_295 x1 v1 M13
  else
  if mI M10 93 1 = 1 then
    obS (K_X0_slopes v1 0 0 159 M10) (fun w65 M61 =>
        some (.inr w65, M61))
    fun r62 M61 =>
    obS (K_X0_slopes (v1 + (x1 / 2)) (x1 / 2) 159 159 M61) (fun w70 M66 =>
        some (.inr w70, M66))
    fun r67 M66 =>
    KJ_X0_step_295 x1 v1 M66
  else
  if mI M10 93 1 = 2 then
    obS (K_X0_slopes v1 0 0 159 M10) (fun w76 M72 =>
        some (.inr w76, M72))
    fun r73 M72 =>
    obS (K_X0_slopes (v1 + (x1 / 2)) (x1 / 2) 159 160 M72) (fun w81 M77 =>
        some (.inr w81, M77))
    fun r78 M77 =>
    obS (K_X0_slopes (v1 + (x1 / 2)) (x1 / 2) 160 161 M77) (fun w86 M82 =>
        some (.inr w86, M82))
    fun r83 M82 =>
    obS (K_X0_slopes (v1 + x1) x1 161 162 M82) (fun w91 M87 =>
        some (.inr w91, M87))
    fun r88 M87 =>
    obS (K_X0_sum 159 160 M87) (fun w96 M92 =>
        some (.inr w96, M92))
    fun r93 M92 =>
    obS (K_X0_sum 159 161 M92) (fun w101 M97 =>
        some (.inr w101, M97))
    fun r98 M97 =>
    obS (KL_X0_step_213 FU x1 v1 0 M97) (fun r117 M114 => some (r117, M114)) fun q113 M114 =>
    KJ_X0_step_295 x1 v1 M114
  else
  obS (K_X0_slopes v1 0 0 159 M10) (fun w122 M118 =>
      some (.inr w122, M118))
  fun r119 M118 =>
  obS (KL_X0_step_267 FU x1 v1 0 M118) (fun r134 M131 => some (r134, M131)) fun q130 M131 =>
  KJ_X0_step_295 x1 v1 M131
def KL_X0_oneStep_72 : Nat → Int32 → Int32 → CM → Option ((Int32 ⊕ (Unit ⊕ Nat)) × CM)
  | 0, _, _, _ => none
  | n + 1, x4, x5, M =>
    if x5 - x4 ≤ 1 then
      some (.inl x5, M)
    else
      nm ((x4 + x5) / 2) fun v32 =>
      ob (K_X0_back M) fun r34 M33 =>
      obS (K_X0_step v32 M33) (fun w41 M37 =>
          some (.inr (.inr w41), M37))
      fun r38 M37 =>
      obS (K_X0_differs M37) (fun w46 M42 =>
          some (.inr (.inr w46), M42))
      fun r43 M42 =>
      if r43 = 0 then
        KL_X0_oneStep_72 n v32 x5 M42
      else
        KL_X0_oneStep_72 n x4 v32 M42
def KJ_X0_oneStep_34 (y0 : Int32) (M : CM) : Option ((Unit ⊕ Nat) × CM) :=
  if mI M 85 1 ≤ 2147483647 - y0 then
    obS (K_X0_step y0 M) (fun w14 M10 =>
        some (.inr w14, M10))
    fun r11 M10 =>
    obS (K_X0_differs M10) (fun w19 M15 =>
        some (.inr w19, M15))
    fun r16 M15 =>
    if r16 = 0 then
      ob (K_X0_isSampleDue M15) fun r21 M20 =>
      if r21 = 0 then
        nm (msI M20 95 1 ((mI M20 95 1) + 1)) fun M24 =>
        some (.inl (), M24)
      else
        obS (K_X0_event 0 M20) (fun w29 M25 =>
            some (.inr w29, M25))
        fun r26 M25 =>
        nm (msI M25 95 1 ((mI M25 95 1) + 1)) fun M30 =>
        some (.inl (), M30)
    else
      obS (KL_X0_oneStep_72 FU 0 y0 M15) (fun r68 M50 => some (r68, M50)) fun q49 M50 =>
      ob (K_X0_back M50) fun r53 M52 =>
      obS (K_X0_step q49 M52) (fun w60 M56 =>
          some (.inr w60, M56))
      fun r57 M56 =>
      obS (K_X0_event 0 M56) (fun w65 M61 =>
          some (.inr w65, M61))
      fun r62 M61 =>
      nm (msI M61 95 1 ((mI M61 95 1) + 1)) fun M66 =>
      some (.inl (), M66)
  else
    ob (K_X0_wrong 41 0 M) fun r71 M70 =>
    if mk M70 r71 = 7 then
    some (.inr r71, M70)
    else none
def K_X0_oneStep (M : CM) : Option ((Unit ⊕ Nat) × CM) :=
  ob (K_X0_keep M) fun r2 M1 =>
  ob (K_X0_nextSample M1) fun r6 M5 =>
  nm (r6 - ((mI M5 85 1).toInt64)) fun v9 =>
  if 0 ≤ lg_cmp v9 ((mI M5 94 1).toInt64) then
    KJ_X0_oneStep_34 (mI M5 94 1) M5
  else
    KJ_X0_oneStep_34 ((v9).toInt32) M5
def KL_X0_put_3_2 : Nat → Nat → Int32 → CM → Option (Unit × CM)
  | 0, _, _, _ => none
  | n + 1, x1, x2, M =>
    if isStr M x1 then
    if nI (sLen M x1) ≤ x2 then
      some ((), M)
    else
      if isStr M x1 ∧ inb x2 (sLen M x1) then
      ob (K_X0_put (sChr M x1 (ix x2)) M) fun r4 M3 =>
      nm (x2 + 1) fun v7 =>
      KL_X0_put_3_2 n x1 v7 M3
      else none
    else none
def K_X0_put_3 (x1 : Nat) (M : CM) : Option (Unit × CM) :=
  ob (KL_X0_put_3_2 FU x1 0 M) fun q9 M10 =>
  some ((), M10)
def KJ_X0_putUnknown_31 (x1 : Int32) (M : CM) : Option (Unit × CM) :=
  if inb x1 180 then
  ob (K_X0_putName (mA M 119 (ix x1)) M) fun r4 M3 =>
  if inb x1 180 then
  if mA M3 120 (ix x1) ≤ 0 then
    some ((), M3)
  else
    ob (K_X0_put 41 M3) fun r9 M8 =>
    some ((), M8)
  else none
  else none
def K_X0_putUnknown (x1 : Int32) (M : CM) : Option (Unit × CM) :=
  if inb x1 180 then
  if mA M 120 (ix x1) ≤ 0 then
    KJ_X0_putUnknown_31 x1 M
  else
    ob (K_X0_put 100 M) fun r14 M13 =>
    if inb x1 180 then
    ob (K_X0_putNumber (mA M13 120 (ix x1)) M13) fun r19 M18 =>
    ob (K_X0_put 40 M18) fun r23 M22 =>
    KJ_X0_putUnknown_31 x1 M22
    else none
  else none
def K_X0_sign (x0 : Int32) (M : CM) : Option (Nat × CM) :=
  if x0 = 3 then
    some (2199023255552, M)
  else
  if x0 = 4 then
    some (2199023255553, M)
  else
  if x0 = 5 then
    some (2199023255554, M)
  else
  if x0 = 6 then
    some (2199023255555, M)
  else
  if x0 = 7 then
    some (2199023255572, M)
  else
  if x0 = 8 then
    some (2199023255564, M)
  else
  if x0 = 9 then
    some (2199023255565, M)
  else
  if x0 = 10 then
    some (2199023255568, M)
  else
  if x0 = 11 then
    some (2199023255569, M)
  else
  if x0 = 12 then
    some (2199023255566, M)
  else
  if x0 = 13 then
    some (2199023255567, M)
  else
  if x0 = 14 then
    some (2199023255572, M)
  else
  if x0 = 15 then
    some (2199023255570, M)
  else
  if x0 = 16 then
    some (2199023255571, M)
  else
  if x0 = 17 then
    some (2199023255572, M)
  else
  if x0 = 18 then
    some (2199023255571, M)
  else
  if x0 = 19 then
    some (2199023255572, M)
  else
  if x0 = 20 then
    some (2199023255556, M)
  else
  if x0 = 21 then
    some (2199023255557, M)
  else
  if x0 = 22 then
    some (2199023255558, M)
  else
  if x0 = 23 then
    some (2199023255559, M)
  else
  if x0 = 24 then
    some (2199023255560, M)
  else
  if x0 = 25 then
    some (2199023255561, M)
  else
  if x0 = 26 then
    some (2199023255562, M)
  else
  if x0 = 27 then
    some (2199023255563, M)
  else
  some (2199023255572, M)
def KB_X0_put_2 (cf_X0_put_2 : Nat → CM → Option (Unit × CM)) (x1 : Nat) (M : CM) : Option (Unit × CM) :=
  if mk M x1 = 18 then
  if mI M 3400 x1 = 0 then
    if mk M x1 = 18 then
    ob (K_X0_putNumber (mI M 3401 x1) M) fun r5 M4 =>
    some ((), M4)
    else none
  else
  if mI M 3400 x1 = 1 then
    if mk M x1 = 18 then
    ob (K_X0_putName (mI M 3401 x1) M) fun r11 M10 =>
    some ((), M10)
    else none
  else
  if mI M 3400 x1 = 2 then
    ob (K_X0_put_3 2199023255573 M) fun r16 M15 =>
    some ((), M15)
  else
  if mI M 3400 x1 = 3 then
    ob (K_X0_put 40 M) fun r21 M20 =>
    if mk M20 x1 = 18 then
    ob (cf_X0_put_2 (mR M20 3405 x1) M20) fun r26 M25 =>
    if mk M25 x1 = 18 then
    ob (K_X0_sign (mI M25 3400 x1) M25) fun r31 M30 =>
    ob (K_X0_put_3 r31 M30) fun r35 M34 =>
    if mk M34 x1 = 18 then
    ob (cf_X0_put_2 (mR M34 3406 x1) M34) fun r40 M39 =>
    ob (K_X0_put 41 M39) fun r44 M43 =>
    some ((), M43)
    else none
    else none
    else none
  else
  if mI M 3400 x1 = 4 then
    ob (K_X0_put 40 M) fun r49 M48 =>
    if mk M48 x1 = 18 then
    ob (cf_X0_put_2 (mR M48 3405 x1) M48) fun r54 M53 =>
    if mk M53 x1 = 18 then
    ob (K_X0_sign (mI M53 3400 x1) M53) fun r59 M58 =>
    ob (K_X0_put_3 r59 M58) fun r63 M62 =>
    if mk M62 x1 = 18 then
    ob (cf_X0_put_2 (mR M62 3406 x1) M62) fun r68 M67 =>
    ob (K_X0_put 41 M67) fun r72 M71 =>
    some ((), M71)
    else none
    else none
    else none
  else
  if mI M 3400 x1 = 5 then
    ob (K_X0_put 40 M) fun r77 M76 =>
    if mk M76 x1 = 18 then
    ob (cf_X0_put_2 (mR M76 3405 x1) M76) fun r82 M81 =>
    if mk M81 x1 = 18 then
    ob (K_X0_sign (mI M81 3400 x1) M81) fun r87 M86 =>
    ob (K_X0_put_3 r87 M86) fun r91 M90 =>
    if mk M90 x1 = 18 then
    ob (cf_X0_put_2 (mR M90 3406 x1) M90) fun r96 M95 =>
    ob (K_X0_put 41 M95) fun r100 M99 =>
    some ((), M99)
    else none
    else none
    else none
  else
  if mI M 3400 x1 = 6 then
    ob (K_X0_put 40 M) fun r105 M104 =>
    if mk M104 x1 = 18 then
    ob (cf_X0_put_2 (mR M104 3405 x1) M104) fun r110 M109 =>
    if mk M109 x1 = 18 then
    ob (K_X0_sign (mI M109 3400 x1) M109) fun r115 M114 =>
    ob (K_X0_put_3 r115 M114) fun r119 M118 =>
    if mk M118 x1 = 18 then
    ob (cf_X0_put_2 (mR M118 3406 x1) M118) fun r124 M123 =>
    ob (K_X0_put 41 M123) fun r128 M127 =>
    some ((), M127)
    else none
    else none
    else none
  else
  if mI M 3400 x1 = 7 then
    if mk M x1 = 18 then
    ob (K_X0_sign (mI M 3400 x1) M) fun r134 M133 =>
    ob (K_X0_put_3 r134 M133) fun r138 M137 =>
    if mk M137 x1 = 18 then
    ob (cf_X0_put_2 (mR M137 3405 x1) M137) fun r143 M142 =>
    ob (K_X0_put 41 M142) fun r147 M146 =>
    some ((), M146)
    else none
    else none
  else
  if mI M 3400 x1 = 8 then
    if mk M x1 = 18 then
    ob (K_X0_sign (mI M 3400 x1) M) fun r153 M152 =>
    ob (K_X0_put_3 r153 M152) fun r157 M156 =>
    if mk M156 x1 = 18 then
    ob (cf_X0_put_2 (mR M156 3405 x1) M156) fun r162 M161 =>
    ob (K_X0_put 41 M161) fun r166 M165 =>
    some ((), M165)
    else none
    else none
  else
  if mI M 3400 x1 = 9 then
    if mk M x1 = 18 then
    ob (K_X0_sign (mI M 3400 x1) M) fun r172 M171 =>
    ob (K_X0_put_3 r172 M171) fun r176 M175 =>
    if mk M175 x1 = 18 then
    ob (cf_X0_put_2 (mR M175 3405 x1) M175) fun r181 M180 =>
    ob (K_X0_put 41 M180) fun r185 M184 =>
    some ((), M184)
    else none
    else none
  else
  if mI M 3400 x1 = 10 then
    if mk M x1 = 18 then
    ob (K_X0_sign (mI M 3400 x1) M) fun r191 M190 =>
    ob (K_X0_put_3 r191 M190) fun r195 M194 =>
    if mk M194 x1 = 18 then
    ob (cf_X0_put_2 (mR M194 3405 x1) M194) fun r200 M199 =>
    ob (K_X0_put 44 M199) fun r204 M203 =>
    if mk M203 x1 = 18 then
    ob (cf_X0_put_2 (mR M203 3406 x1) M203) fun r209 M208 =>
    ob (K_X0_put 41 M208) fun r213 M212 =>
    some ((), M212)
    else none
    else none
    else none
  else
  if mI M 3400 x1 = 11 then
    if mk M x1 = 18 then
    ob (K_X0_sign (mI M 3400 x1) M) fun r219 M218 =>
    ob (K_X0_put_3 r219 M218) fun r223 M222 =>
    if mk M222 x1 = 18 then
    ob (cf_X0_put_2 (mR M222 3405 x1) M222) fun r228 M227 =>
    ob (K_X0_put 44 M227) fun r232 M231 =>
    if mk M231 x1 = 18 then
    ob (cf_X0_put_2 (mR M231 3406 x1) M231) fun r237 M236 =>
    ob (K_X0_put 41 M236) fun r241 M240 =>
    some ((), M240)
    else none
    else none
    else none
  else
  if mI M 3400 x1 = 12 then
    if mk M x1 = 18 then
    ob (K_X0_sign (mI M 3400 x1) M) fun r247 M246 =>
    ob (K_X0_put_3 r247 M246) fun r251 M250 =>
    if mk M250 x1 = 18 then
    ob (cf_X0_put_2 (mR M250 3405 x1) M250) fun r256 M255 =>
    ob (K_X0_put 41 M255) fun r260 M259 =>
    some ((), M259)
    else none
    else none
  else
  if mI M 3400 x1 = 13 then
    if mk M x1 = 18 then
    ob (K_X0_sign (mI M 3400 x1) M) fun r266 M265 =>
    ob (K_X0_put_3 r266 M265) fun r270 M269 =>
    if mk M269 x1 = 18 then
    ob (cf_X0_put_2 (mR M269 3405 x1) M269) fun r275 M274 =>
    ob (K_X0_put 41 M274) fun r279 M278 =>
    some ((), M278)
    else none
    else none
  else
  if mI M 3400 x1 = 14 then
    ob (K_X0_put_3 2199023255574 M) fun r284 M283 =>
    if mk M283 x1 = 18 then
    ob (cf_X0_put_2 (mR M283 3405 x1) M283) fun r289 M288 =>
    ob (K_X0_put_3 2199023255575 M288) fun r293 M292 =>
    if mk M292 x1 = 18 then
    ob (cf_X0_put_2 (mR M292 3406 x1) M292) fun r298 M297 =>
    ob (K_X0_put_3 2199023255576 M297) fun r302 M301 =>
    if mk M301 x1 = 18 then
    ob (cf_X0_put_2 (mR M301 3407 x1) M301) fun r307 M306 =>
    ob (K_X0_put 41 M306) fun r311 M310 =>
    some ((), M310)
    else none
    else none
    else none
  else
  if mI M 3400 x1 = 15 then
    if mk M x1 = 18 then
    ob (K_X0_sign (mI M 3400 x1) M) fun r317 M316 =>
    ob (K_X0_put_3 r317 M316) fun r321 M320 =>
    if mk M320 x1 = 18 then
    ob (K_X0_putName (mI M320 3401 x1) M320) fun r326 M325 =>
    ob (K_X0_put 41 M325) fun r330 M329 =>
    some ((), M329)
    else none
    else none
  else
  if mI M 3400 x1 = 16 then
    if mk M x1 = 18 then
    ob (K_X0_sign (mI M 3400 x1) M) fun r336 M335 =>
    ob (K_X0_put_3 r336 M335) fun r340 M339 =>
    if mk M339 x1 = 18 then
    ob (K_X0_putName (mI M339 3401 x1) M339) fun r345 M344 =>
    ob (K_X0_put 41 M344) fun r349 M348 =>
    some ((), M348)
    else none
    else none
  else
  if mI M 3400 x1 = 17 then
    if mk M x1 = 18 then
    ob (K_X0_putUnknown (mI M 3401 x1) M) fun r355 M354 =>
    some ((), M354)
    else none
  else
  if mI M 3400 x1 = 18 then
    if mk M x1 = 18 then
    ob (K_X0_sign (mI M 3400 x1) M) fun r361 M360 =>
    ob (K_X0_put_3 r361 M360) fun r365 M364 =>
    if mk M364 x1 = 18 then
    ob (K_X0_putUnknown (mI M364 3401 x1) M364) fun r370 M369 =>
    ob (K_X0_put 41 M369) fun r374 M373 =>
    some ((), M373)
    else none
    else none
  else
  if mI M 3400 x1 = 19 then
    ob (K_X0_put 40 M) fun r379 M378 =>
    if mk M378 x1 = 18 then
    ob (cf_X0_put_2 (mR M378 3405 x1) M378) fun r384 M383 =>
    if mk M383 x1 = 18 then
    ob (K_X0_sign (mI M383 3400 x1) M383) fun r389 M388 =>
    ob (K_X0_put_3 r389 M388) fun r393 M392 =>
    if mk M392 x1 = 18 then
    ob (cf_X0_put_2 (mR M392 3406 x1) M392) fun r398 M397 =>
    ob (K_X0_put 41 M397) fun r402 M401 =>
    some ((), M401)
    else none
    else none
    else none
  else
  if mI M 3400 x1 = 20 then
    ob (K_X0_put 40 M) fun r407 M406 =>
    if mk M406 x1 = 18 then
    ob (cf_X0_put_2 (mR M406 3405 x1) M406) fun r412 M411 =>
    if mk M411 x1 = 18 then
    ob (K_X0_sign (mI M411 3400 x1) M411) fun r417 M416 =>
    ob (K_X0_put_3 r417 M416) fun r421 M420 =>
    if mk M420 x1 = 18 then
    ob (cf_X0_put_2 (mR M420 3406 x1) M420) fun r426 M425 =>
    ob (K_X0_put 41 M425) fun r430 M429 =>
    some ((), M429)
    else none
    else none
    else none
  else
  if mI M 3400 x1 = 21 then
    ob (K_X0_put 40 M) fun r435 M434 =>
    if mk M434 x1 = 18 then
    ob (cf_X0_put_2 (mR M434 3405 x1) M434) fun r440 M439 =>
    if mk M439 x1 = 18 then
    ob (K_X0_sign (mI M439 3400 x1) M439) fun r445 M444 =>
    ob (K_X0_put_3 r445 M444) fun r449 M448 =>
    if mk M448 x1 = 18 then
    ob (cf_X0_put_2 (mR M448 3406 x1) M448) fun r454 M453 =>
    ob (K_X0_put 41 M453) fun r458 M457 =>
    some ((), M457)
    else none
    else none
    else none
  else
  if mI M 3400 x1 = 22 then
    ob (K_X0_put 40 M) fun r463 M462 =>
    if mk M462 x1 = 18 then
    ob (cf_X0_put_2 (mR M462 3405 x1) M462) fun r468 M467 =>
    if mk M467 x1 = 18 then
    ob (K_X0_sign (mI M467 3400 x1) M467) fun r473 M472 =>
    ob (K_X0_put_3 r473 M472) fun r477 M476 =>
    if mk M476 x1 = 18 then
    ob (cf_X0_put_2 (mR M476 3406 x1) M476) fun r482 M481 =>
    ob (K_X0_put 41 M481) fun r486 M485 =>
    some ((), M485)
    else none
    else none
    else none
  else
  if mI M 3400 x1 = 23 then
    ob (K_X0_put 40 M) fun r491 M490 =>
    if mk M490 x1 = 18 then
    ob (cf_X0_put_2 (mR M490 3405 x1) M490) fun r496 M495 =>
    if mk M495 x1 = 18 then
    ob (K_X0_sign (mI M495 3400 x1) M495) fun r501 M500 =>
    ob (K_X0_put_3 r501 M500) fun r505 M504 =>
    if mk M504 x1 = 18 then
    ob (cf_X0_put_2 (mR M504 3406 x1) M504) fun r510 M509 =>
    ob (K_X0_put 41 M509) fun r514 M513 =>
    some ((), M513)
    else none
    else none
    else none
  else
  if mI M 3400 x1 = 24 then
    ob (K_X0_put 40 M) fun r519 M518 =>
    if mk M518 x1 = 18 then
    ob (cf_X0_put_2 (mR M518 3405 x1) M518) fun r524 M523 =>
    if mk M523 x1 = 18 then
    ob (K_X0_sign (mI M523 3400 x1) M523) fun r529 M528 =>
    ob (K_X0_put_3 r529 M528) fun r533 M532 =>
    if mk M532 x1 = 18 then
    ob (cf_X0_put_2 (mR M532 3406 x1) M532) fun r538 M537 =>
    ob (K_X0_put 41 M537) fun r542 M541 =>
    some ((), M541)
    else none
    else none
    else none
  else
  if mI M 3400 x1 = 25 then
    ob (K_X0_put 40 M) fun r547 M546 =>
    if mk M546 x1 = 18 then
    ob (cf_X0_put_2 (mR M546 3405 x1) M546) fun r552 M551 =>
    if mk M551 x1 = 18 then
    ob (K_X0_sign (mI M551 3400 x1) M551) fun r557 M556 =>
    ob (K_X0_put_3 r557 M556) fun r561 M560 =>
    if mk M560 x1 = 18 then
    ob (cf_X0_put_2 (mR M560 3406 x1) M560) fun r566 M565 =>
    ob (K_X0_put 41 M565) fun r570 M569 =>
    some ((), M569)
    else none
    else none
    else none
  else
  if mI M 3400 x1 = 26 then
    ob (K_X0_put 40 M) fun r575 M574 =>
    if mk M574 x1 = 18 then
    ob (cf_X0_put_2 (mR M574 3405 x1) M574) fun r580 M579 =>
    if mk M579 x1 = 18 then
    ob (K_X0_sign (mI M579 3400 x1) M579) fun r585 M584 =>
    ob (K_X0_put_3 r585 M584) fun r589 M588 =>
    if mk M588 x1 = 18 then
    ob (cf_X0_put_2 (mR M588 3406 x1) M588) fun r594 M593 =>
    ob (K_X0_put 41 M593) fun r598 M597 =>
    some ((), M597)
    else none
    else none
    else none
  else
  if mI M 3400 x1 = 27 then
    ob (K_X0_put 40 M) fun r603 M602 =>
    if mk M602 x1 = 18 then
    ob (cf_X0_put_2 (mR M602 3405 x1) M602) fun r608 M607 =>
    if mk M607 x1 = 18 then
    ob (K_X0_sign (mI M607 3400 x1) M607) fun r613 M612 =>
    ob (K_X0_put_3 r613 M612) fun r617 M616 =>
    if mk M616 x1 = 18 then
    ob (cf_X0_put_2 (mR M616 3406 x1) M616) fun r622 M621 =>
    ob (K_X0_put 41 M621) fun r626 M625 =>
    some ((), M625)
    else none
    else none
    else none
  else
  if mI M 3400 x1 = 28 then
    ob (K_X0_put_3 2199023255577 M) fun r631 M630 =>
    if mk M630 x1 = 18 then
    ob (cf_X0_put_2 (mR M630 3405 x1) M630) fun r636 M635 =>
    ob (K_X0_put 41 M635) fun r640 M639 =>
    some ((), M639)
    else none
  else
  if mI M 3400 x1 = 29 then
    ob (K_X0_put_3 2199023255578 M) fun r645 M644 =>
    if mk M644 x1 = 18 then
    ob (K_X0_putNumber (mI M644 3401 x1) M644) fun r650 M649 =>
    ob (K_X0_put 44 M649) fun r654 M653 =>
    if mk M653 x1 = 18 then
    ob (K_X0_putNumber (mI M653 3402 x1) M653) fun r659 M658 =>
    ob (K_X0_put 41 M658) fun r663 M662 =>
    some ((), M662)
    else none
    else none
  else
  ob (K_X0_put 40 M) fun r667 M666 =>
  if mk M666 x1 = 18 then
  ob (cf_X0_put_2 (mR M666 3405 x1) M666) fun r672 M671 =>
  if mk M671 x1 = 18 then
  ob (K_X0_sign (mI M671 3400 x1) M671) fun r677 M676 =>
  ob (K_X0_put_3 r677 M676) fun r681 M680 =>
  if mk M680 x1 = 18 then
  ob (cf_X0_put_2 (mR M680 3406 x1) M680) fun r686 M685 =>
  ob (K_X0_put 41 M685) fun r690 M689 =>
  some ((), M689)
  else none
  else none
  else none
  else none
def KG_X0_put_2 : Nat → (Nat → CM → Option (Unit × CM))
  | 0 => (fun _ _ => none)
  | d + 1 => (KB_X0_put_2 (KG_X0_put_2 d))
def K_X0_put_2 : Nat → CM → Option (Unit × CM) := (KG_X0_put_2 300)
def K_X0_putBoth (x1 : Nat) (x2 : Nat) (M : CM) : Option (Unit × CM) :=
  ob (K_X0_put_2 x1 M) fun r2 M1 =>
  ob (K_X0_put_3 2199023255582 M1) fun r6 M5 =>
  ob (K_X0_put_2 x2 M5) fun r10 M9 =>
  some ((), M9)
def KJ_X0_print_309 (x4 : Nat) (y0 : Nat) (y1 : Nat) (M : CM) : Option (Int32 × CM) :=
  if y0 = 1 ∧ mk M y0 = 1 then
  ob (K_X0_put_3 y1 M) fun r67 M66 =>
  if mk M66 x4 = 21 then
  ob (K_X0_put_2 (mR M66 4002 x4) M66) fun r72 M71 =>
  if mk M71 x4 = 21 then
  if mI M71 4000 x4 = 0 then
    ob (K_X0_put_3 2199023255580 M71) fun r78 M77 =>
    some (mI M77 3 1, M77)
  else
    ob (K_X0_put_3 2199023255583 M71) fun r82 M81 =>
    some (mI M81 3 1, M81)
  else none
  else none
  else none
def KJ_X0_print_279 (x4 : Nat) (y0 : Nat) (y1 : Nat) (M : CM) : Option (Int32 × CM) :=
  if y0 = 1 ∧ mk M y0 = 1 then
  ob (K_X0_put_3 y1 M) fun r55 M54 =>
  if mk M54 x4 = 21 then
  ob (K_X0_putName (mI M54 4001 x4) M54) fun r60 M59 =>
  if mk M59 x4 = 21 then
  if mI M59 4000 x4 = 0 then
    KJ_X0_print_309 x4 1 2199023255582 M59
  else
    KJ_X0_print_309 x4 1 2199023255581 M59
  else none
  else none
  else none
def KJ_X0_print_123 (x1 : Int32) (x2 : Int32) (M : CM) : Option (Int32 × CM) :=
  nm (msI M 3 1 0) fun M4 =>
  if x1 = 0 then
    ob (K_J2_get 111 x2 M4) fun r7 M6 =>
    if r7 = 0 ∨ mk M6 r7 = 19 then
    if mk M6 r7 = 19 then
    ob (K_J2_get 111 x2 M6) fun r13 M12 =>
    if r13 = 0 ∨ mk M12 r13 = 19 then
    if mk M12 r13 = 19 then
    ob (K_X0_putBoth (mR M6 3600 r7) (mR M12 3601 r13) M12) fun r19 M18 =>
    some (mI M18 3 1, M18)
    else none
    else none
    else none
    else none
  else
  if x1 = 1 then
    if inb x2 180 then
    if inb x2 180 then
    ob (K_X0_putBoth (mX M4 126 (ix x2)) (mX M4 127 (ix x2)) M4) fun r26 M25 =>
    some (mI M25 3 1, M25)
    else none
    else none
  else
  if x1 = 2 then
    if inb x2 24 then
    ob (K_X0_put_2 (mX M4 114 (ix x2)) M4) fun r32 M31 =>
    some (mI M31 3 1, M31)
    else none
  else
  if x1 = 3 then
    ob (K_J2_get 113 x2 M4) fun r37 M36 =>
    if r37 = 0 ∨ mk M36 r37 = 20 then
    if mk M36 r37 = 20 then
    ob (K_X0_put_2 (mR M36 3800 r37) M36) fun r43 M42 =>
    some (mI M42 3 1, M42)
    else none
    else none
  else
  ob (K_J2_get 112 x2 M4) fun r47 M46 =>
  if r47 = 0 ∨ mk M46 r47 = 21 then
  if mk M46 r47 = 21 then
  if mI M46 4000 r47 = 0 then
    KJ_X0_print_279 r47 1 2199023255580 M46
  else
    KJ_X0_print_279 r47 1 2199023255579 M46
  else none
  else none
def KJ_X0_print_96 (x1 : Int32) (x2 : Int32) (y0 : Int32) (M : CM) : Option (Int32 × CM) :=
  if x2 < 0 then
    some ((-2), M)
  else
    if y0 ≤ x2 then
      some ((-2), M)
    else
      if x1 = 1 then
        if inb x2 180 then
        if mA M 128 (ix x2) = 0 then
          KJ_X0_print_123 x1 x2 M
        else
          some ((-2), M)
        else none
      else
        KJ_X0_print_123 x1 x2 M
def KJ_X0_print_45 (x1 : Int32) (x2 : Int32) (M : CM) : Option (Int32 × CM) :=
  if x1 = 0 then
    KJ_X0_print_96 x1 x2 (mI M 35 1) M
  else
    if x1 = 1 then
      KJ_X0_print_96 x1 x2 (mI M 65 1) M
    else
      if x1 = 2 then
        KJ_X0_print_96 x1 x2 (mI M 41 1) M
      else
        if x1 = 3 then
          KJ_X0_print_96 x1 x2 (mI M 39 1) M
        else
          KJ_X0_print_96 x1 x2 (mI M 37 1) M
def K_X0_print (x1 : Int32) (x2 : Int32) (M : CM) : Option (Int32 × CM) :=
  if x1 < 0 then
    if mI M 30 1 = 0 then
      some ((-4), M)
    else
      some ((-1), M)
  else
    if x1 ≤ 4 then
      if mI M 30 1 = 0 then
        some ((-4), M)
      else
        if x1 = 1 then
          if mI M 46 1 = 0 then
            some ((-4), M)
          else
            KJ_X0_print_45 x1 x2 M
        else
          KJ_X0_print_45 x1 x2 M
    else
      if mI M 30 1 = 0 then
        some ((-4), M)
      else
        some ((-1), M)
def KJ_X0_relation_56 (x1 : Int32) (M : CM) : Option (Int32 × CM) :=
  if x1 < 0 then
    some ((-2), M)
  else
    if x1 < mI M 41 1 then
      if inb x1 24 then
      if mA M 148 (ix x1) = 0 then
        some (0, M)
      else
        some (1, M)
      else none
    else
      some ((-2), M)
def K_X0_relation (x1 : Int32) (M : CM) : Option (Int32 × CM) :=
  if mI M 91 1 = 0 then
    some ((-4), M)
  else
    if x1 < 1000 then
      KJ_X0_relation_56 x1 M
    else
      if 1000 + (mI M 39 1) ≤ x1 then
        KJ_X0_relation_56 x1 M
      else
        ob (K_J2_get 113 (x1 - 1000) M) fun r8 M7 =>
        if r8 = 0 ∨ mk M7 r8 = 20 then
        if mk M7 r8 = 20 then
        if mI M7 3804 r8 = 0 then
          some (0, M7)
        else
          some (1, M7)
        else none
        else none
def KL_X0_run_37 : Nat → Int32 → Int32 → Int32 → CM → Option ((Unit ⊕ Int32) × CM)
  | 0, _, _, _, _ => none
  | n + 1, x1, x2, x3, M =>
    if x1 ≤ x3 then
      some (.inl (), M)
    else
      nm (mI M 96 1) fun v4 =>
      nm (mI M 97 1) fun v5 =>
      obS (K_X0_oneStep M) (fun w10 M6 =>
          ob (K_X0_back M6) fun r12 M11 =>
          nm (msI M11 96 1 v4) fun M15 =>
          nm (msI M15 97 1 v5) fun M16 =>
          nm (msI M16 92 1 1) fun M17 =>
          ob (K_X0_fails w10 M17) fun r19 M18 =>
          some (.inr r19, M18))
      fun r7 M6 =>
      nm (x3 + 1) fun v22 =>
      KL_X0_run_37 n x1 x2 v22 M6
def K_X0_run (x1 : Int32) (M : CM) : Option (Int32 × CM) :=
  if x1 < 1 then
    some ((-1), M)
  else
    if x1 ≤ 20 then
      if mI M 91 1 = 0 then
        some ((-4), M)
      else
        if mI M 92 1 = 0 then
          nm (mI M 96 1) fun v3 =>
          obS (KL_X0_run_37 FU x1 v3 0 M) (fun r28 M25 => some (r28, M25)) fun q24 M25 =>
          some ((mI M25 96 1) - v3, M25)
        else
          some ((-4), M)
    else
      some ((-1), M)
