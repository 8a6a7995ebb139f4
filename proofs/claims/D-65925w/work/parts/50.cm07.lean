set_option maxRecDepth 100000
def KL_X0_seek_32 : Nat → Int32 → Int32 → Int32 → CM → Option ((Unit ⊕ (Int32 ⊕ Nat)) × CM)
  | 0, _, _, _, _ => none
  | n + 1, x1, x2, x3, M =>
    if mI M 74 1 ≤ x3 then
      some (.inl (), M)
    else
      obS (K_X0_slope x2 x3 M) (fun w6 M2 =>
          some (.inr (.inr w6), M2))
      fun r3 M2 =>
      if inb ((25 * x2) + x3) 625 then
      nm (mwA M2 166 (ix ((25 * x2) + x3)) r3) fun M8 =>
      nm (x3 + 1) fun v9 =>
      KL_X0_seek_32 n x1 x2 v9 M8
      else none
def KL_X0_seek_22 : Nat → Int32 → Int32 → CM → Option ((Unit ⊕ (Int32 ⊕ Nat)) × CM)
  | 0, _, _, _ => none
  | n + 1, x1, x2, M =>
    if mI M 74 1 ≤ x2 then
      some (.inl (), M)
    else
      obS (KL_X0_seek_32 FU x1 x2 0 M) (fun r21 M12 => some (.inr r21, M12)) fun q11 M12 =>
      if inb x2 180 then
      if inb (mA M12 140 (ix x2)) 180 then
      if inb (mA M12 121 (ix (mA M12 140 (ix x2)))) 180 then
      if inb ((25 * x2) + (mI M12 74 1)) 625 then
      nm (mwA M12 166 (ix ((25 * x2) + (mI M12 74 1))) (-(mA M12 124 (ix (mA M12 121 (ix (mA M12 140 (ix x2)))))))) fun M18 =>
      nm (x2 + 1) fun v19 =>
      KL_X0_seek_22 n x1 v19 M18
      else none
      else none
      else none
      else none
def KL_X0_seek_128 : Nat → Int32 → Int32 → Int32 → CM → Option ((Int32 ⊕ (Int32 ⊕ Nat)) × CM)
  | 0, _, _, _, _ => none
  | n + 1, x1, x2, x3, M =>
    if mI M 74 1 ≤ x3 then
      some (.inl x2, M)
    else
      if inb x3 180 then
      if inb x3 180 then
      if inb (mA M 140 (ix x3)) 180 then
      if inb x3 25 then
      obS (K_X19_in (((mA M 124 (ix (mA M 140 (ix x3)))).toInt64) + ((mA M 150 (ix x3)).toInt64)) M) (fun w41 M37 =>
          some (.inr (.inr w41), M37))
      fun r38 M37 =>
      if inb (mA M 140 (ix x3)) 180 then
      nm (mwA M37 124 (ix (mA M 140 (ix x3))) r38) fun M43 =>
      if inb x3 25 then
      if mA M43 150 (ix x3) < (-2) then
        nm (x2 &&& 0) fun v45 =>
        nm (x3 + 1) fun v46 =>
        KL_X0_seek_128 n x1 v45 v46 M43
      else
        if inb x3 25 then
        if 2 < mA M43 150 (ix x3) then
          nm (x2 &&& 0) fun v48 =>
          nm (x3 + 1) fun v49 =>
          KL_X0_seek_128 n x1 v48 v49 M43
        else
          nm (x2 &&& 1) fun v50 =>
          nm (x3 + 1) fun v51 =>
          KL_X0_seek_128 n x1 v50 v51 M43
        else none
      else none
      else none
      else none
      else none
      else none
      else none
def KL_X0_seek_7 : Nat → Int32 → CM → Option ((Unit ⊕ (Int32 ⊕ Nat)) × CM)
  | 0, _, _ => none
  | n + 1, x1, M =>
    if mI M 74 1 ≤ 0 then
      some (.inl (), M)
    else
      if 10 < x1 then
        some (.inl (), M)
      else
        obS (KL_X0_seek_22 FU x1 0 M) (fun r69 M24 => some (.inr r69, M24)) fun q23 M24 =>
        if mk M24 166 = 50 ∧ mk M24 149 = 50 ∧ ¬ (0 : Int32) < 0 ∧ ¬ (0 : Int32) < 0 ∧ ¬ (625 : Int32) < 0 ∧ ix 0 + ix 625 ≤ ml M24 166 ∧ ix 0 + ix 625 ≤ ml M24 149 then
        nm (mcA M24 166 (ix 0) 149 (ix 0) (ix 625)) fun M27 =>
        obS (K_X0_eliminate (mI M27 74 1) M27) (fun w32 M28 =>
            some (.inr (.inr w32), M28))
        fun r29 M28 =>
        obS (KL_X0_seek_128 FU x1 1 0 M28) (fun r67 M56 => some (.inr r67, M56)) fun q55 M56 =>
        obS (K_X0_solveBlocks M56) (fun w63 M59 =>
            some (.inr (.inr w63), M59))
        fun r60 M59 =>
        if q55 = 0 then
          nm (x1 + 1) fun v64 =>
          KL_X0_seek_7 n v64 M59
        else
          some (.inr (.inl x1), M59)
        else none
def K_X0_seek (M : CM) : Option ((Int32 ⊕ Nat) × CM) :=
  nm (msI M 86 1 1) fun M1 =>
  obS (KL_X0_seek_7 FU 1 M1) (fun r82 M73 => some (r82, M73)) fun q72 M73 =>
  if mI M73 74 1 ≤ 0 then
    some (.inl 0, M73)
  else
    ob (K_X0_wrong 44 0 M73) fun r76 M75 =>
    if mk M75 r76 = 7 then
    some (.inr r76, M75)
    else none
def KL_X0_set_57 : Nat → Int32 → Nat → Int32 → CM → Option (Unit × CM)
  | 0, _, _, _, _ => none
  | n + 1, x2, x3, x4, M =>
    if mI M 15 1 ≤ x4 then
      some ((), M)
    else
      ob (K_J2_get 98 x4 M) fun r9 M8 =>
      if r9 = 0 ∨ mk M8 r9 = 17 then
      if mk M8 r9 = 17 then
      if inb x4 96 then
      nm (mwA M8 163 (ix x4) (mI M8 3213 r9)) fun M15 =>
      ob (K_J2_get 98 x4 M15) fun r17 M16 =>
      if r17 = 0 ∨ mk M16 r17 = 17 then
      if mk M16 r17 = 17 then
      if inb x4 96 then
      nm (mwA M16 164 (ix x4) (mI M16 3212 r17)) fun M23 =>
      nm (x4 + 1) fun v24 =>
      KL_X0_set_57 n x2 x3 v24 M23
      else none
      else none
      else none
      else none
      else none
      else none
def KL_X0_set_154 : Nat → Nat → Int32 → CM → Option (Unit × CM)
  | 0, _, _, _ => none
  | n + 1, x5, x6, M =>
    if mI M 15 1 ≤ x6 then
      some ((), M)
    else
      ob (K_J2_get 98 x6 M) fun r43 M42 =>
      if r43 = 0 ∨ mk M42 r43 = 17 then
      if inb x6 96 then
      if mk M42 r43 = 17 then
      nm (msI M42 3213 r43 (mA M42 163 (ix x6))) fun M49 =>
      ob (K_J2_get 98 x6 M49) fun r51 M50 =>
      if r51 = 0 ∨ mk M50 r51 = 17 then
      if inb x6 96 then
      if mk M50 r51 = 17 then
      nm (msI M50 3212 r51 (mA M50 164 (ix x6))) fun M57 =>
      nm (x6 + 1) fun v58 =>
      KL_X0_set_154 n x5 v58 M57
      else none
      else none
      else none
      else none
      else none
      else none
def KJ_X0_set_143 (x3 : Nat) (x4 : Nat) (y0 : Nat) (M : CM) : Option (Int32 × CM) :=
  if mk M x3 = 17 then
  nm (msR M 3210 x3 x4) fun M41 =>
  ob (KL_X0_set_154 FU y0 0 M41) fun q60 M61 =>
  if mk M61 y0 = 7 then
  ob (K_X0_wrong (mI M61 1200 y0) 0 M61) fun r65 M64 =>
  ob (K_X0_fails r65 M64) fun r69 M68 =>
  some (r69, M68)
  else none
  else none
def K_X0_set (x1 : Int32) (x2 : Int32) (M : CM) : Option (Int32 × CM) :=
  if mI M 30 1 = 0 then
    some ((-4), M)
  else
    if x1 < 0 then
      some ((-2), M)
    else
      if x1 < mI M 15 1 then
        ob (K_J2_get 98 x1 M) fun r3 M2 =>
        if r3 = 0 ∨ mk M2 r3 = 17 then
        if mk M2 r3 = 17 then
        if mI M2 3203 r3 = 1 then
          if x2 = (-2147483648) then
            some ((-1), M2)
          else
            ob (KL_X0_set_57 FU x2 r3 0 M2) fun q26 M27 =>
            if mk M27 r3 = 17 then
            nm (mR M27 3210 r3) fun v30 =>
            if mk M27 r3 = 17 then
            nm (msR M27 3210 r3 0) fun M32 =>
            if mk M32 r3 = 17 then
            nm (msI M32 3213 r3 x2) fun M34 =>
            obS (K_X0_workParameters M34) (fun w39 M35 =>
                KJ_X0_set_143 r3 v30 w39 M35)
            fun r36 M35 =>
            obS (K_X0_workStarts M35) (fun w77 M73 =>
                KJ_X0_set_143 r3 v30 w77 M73)
            fun r74 M73 =>
            nm (msI M73 91 1 0) fun M78 =>
            some (0, M78)
            else none
            else none
            else none
        else
          some ((-1), M2)
        else none
        else none
      else
        some ((-2), M)
def K_X0_solve (M : CM) : Option (Int32 × CM) :=
  if mI M 30 1 = 0 then
    some ((-4), M)
  else
    nm (msI M 46 1 0) fun M2 =>
    nm (msI M2 91 1 0) fun M3 =>
    ob (K_X0_aliases M3) fun r5 M4 =>
    obS (K_X0_makeUnknowns M4) (fun w12 M8 =>
        ob (K_X0_fails w12 M8) fun r14 M13 =>
        some (r14, M13))
    fun r9 M8 =>
    obS (K_X0_makeEquations M8) (fun w21 M17 =>
        ob (K_X0_fails w21 M17) fun r23 M22 =>
        some (r23, M22))
    fun r18 M17 =>
    obS (K_X0_lowerIndex M17) (fun w30 M26 =>
        ob (K_X0_fails w30 M26) fun r32 M31 =>
        some (r32, M31))
    fun r27 M26 =>
    obS (K_X0_chooseStates M26) (fun w39 M35 =>
        ob (K_X0_fails w39 M35) fun r41 M40 =>
        some (r41, M40))
    fun r36 M35 =>
    obS (K_X0_makeBlocks M35) (fun w48 M44 =>
        ob (K_X0_fails w48 M44) fun r50 M49 =>
        some (r50, M49))
    fun r45 M44 =>
    nm (msI M44 46 1 1) fun M53 =>
    some (mI M53 75 1, M53)
def K_X0_steady (M : CM) : Option (Int32 × CM) :=
  if mI M 91 1 = 0 then
    some ((-4), M)
  else
    if mI M 92 1 = 0 then
      nm (mI M 90 1) fun v3 =>
      ob (K_X0_keep M) fun r5 M4 =>
      obS (K_X0_seek M4) (fun w12 M8 =>
          ob (K_X0_back M8) fun r14 M13 =>
          nm (msI M13 90 1 v3) fun M17 =>
          ob (K_X0_fails w12 M17) fun r19 M18 =>
          some (r19, M18))
      fun r9 M8 =>
      some (r9, M8)
    else
      some ((-4), M)
def K_X0_time (M : CM) : Option (Int64 × CM) :=
  if mI M 91 1 = 0 then
    some ((-4294967300), M)
  else
    some ((mI M 85 1).toInt64, M)
def K_X0_unknown (x1 : Int32) (x2 : Int32) (M : CM) : Option (Int32 × CM) :=
  if mI M 46 1 = 0 then
    some ((-4), M)
  else
    if x1 < 0 then
      some ((-2), M)
    else
      if x1 < mI M 57 1 then
        if x2 < 0 then
          some ((-1), M)
        else
          if x2 ≤ 4 then
            if x2 = 0 then
              if inb x1 180 then
              nm (mA M 119 (ix x1)) fun v4 =>
              if 0 ≤ v4 then
                some (v4, M)
              else
                some ((-2), M)
              else none
            else
            if x2 = 1 then
              if inb x1 180 then
              nm (mA M 120 (ix x1)) fun v8 =>
              if 0 ≤ v8 then
                some (v8, M)
              else
                some ((-2), M)
              else none
            else
            if x2 = 2 then
              if inb x1 180 then
              nm (mA M 121 (ix x1)) fun v12 =>
              if 0 ≤ v12 then
                some (v12, M)
              else
                some ((-2), M)
              else none
            else
            if x2 = 3 then
              if inb x1 180 then
              nm (mA M 122 (ix x1)) fun v16 =>
              if 0 ≤ v16 then
                some (v16, M)
              else
                some ((-2), M)
              else none
            else
            if inb x1 180 then
            nm (mA M 123 (ix x1)) fun v19 =>
            if 0 ≤ v19 then
              some (v19, M)
            else
              some ((-2), M)
            else none
          else
            some ((-1), M)
      else
        some ((-2), M)
def KJ_X0_value_183 (x2 : Int32) (x3 : Nat) (y0 : Int32) (M : CM) : Option (Int64 × CM) :=
  if 0 ≤ y0 then
    if x2 = 3 then
      if inb y0 180 then
      nm (mA M 125 (ix y0)) fun v22 =>
      if mk M x3 = 17 then
      if 0 ≤ mI M 3218 x3 then
        some ((v22).toInt64, M)
      else
        some ((-v22).toInt64, M)
      else none
      else none
    else
      if inb y0 180 then
      nm (mA M 124 (ix y0)) fun v18 =>
      if mk M x3 = 17 then
      if 0 ≤ mI M 3218 x3 then
        some ((v18).toInt64, M)
      else
        some ((-v18).toInt64, M)
      else none
      else none
  else
    some ((-4294967298), M)
def KJ_X0_value_181 (x2 : Int32) (x3 : Nat) (x4 : Int32) (M : CM) : Option (Int64 × CM) :=
  KJ_X0_value_183 x2 x3 x4 M
def KJ_X0_value_159 (x2 : Int32) (x3 : Nat) (y0 : Int32) (M : CM) : Option (Int64 × CM) :=
  if y0 < 0 then
    KJ_X0_value_181 x2 x3 y0 M
  else
    if x2 = 2 then
      if inb y0 180 then
      KJ_X0_value_183 x2 x3 (mA M 121 (ix y0)) M
      else none
    else
      KJ_X0_value_181 x2 x3 y0 M
def KJ_X0_value_81 (x2 : Int32) (x3 : Nat) (M : CM) : Option (Int64 × CM) :=
  if mI M 91 1 = 0 then
    some ((-4294967300), M)
  else
    if mk M x3 = 17 then
    if mI M 3203 x3 = 2 then
      if x2 = 1 then
        if mk M x3 = 17 then
        some ((mI M 3213 x3).toInt64, M)
        else none
      else
        if x2 = 3 then
          if mk M x3 = 17 then
          some ((mI M 3214 x3).toInt64, M)
          else none
        else
          some ((-4294967298), M)
    else
      if mk M x3 = 17 then
      if mI M 3203 x3 = 1 then
        KJ_X0_value_159 x2 x3 (-1) M
      else
        if mk M x3 = 17 then
        ob (K_J2_get 98 (mI M 3217 x3) M) fun r12 M11 =>
        if r12 = 0 ∨ mk M11 r12 = 17 then
        if mk M11 r12 = 17 then
        KJ_X0_value_159 x2 x3 (mI M11 3219 r12) M11
        else none
        else none
        else none
      else none
    else none
def K_X0_value (x1 : Int32) (x2 : Int32) (M : CM) : Option (Int64 × CM) :=
  if mI M 30 1 = 0 then
    some ((-4294967300), M)
  else
    if x1 < 0 then
      some ((-4294967298), M)
    else
      if x1 < mI M 15 1 then
        if x2 < 0 then
          some ((-4294967297), M)
        else
          if x2 ≤ 3 then
            ob (K_J2_get 98 x1 M) fun r3 M2 =>
            if r3 = 0 ∨ mk M2 r3 = 17 then
            if x2 = 0 then
              if mk M2 r3 = 17 then
              some ((mI M2 3212 r3).toInt64, M2)
              else none
            else
              if x2 = 1 then
                if mk M2 r3 = 17 then
                if mI M2 3203 r3 = 1 then
                  if mk M2 r3 = 17 then
                  some ((mI M2 3213 r3).toInt64, M2)
                  else none
                else
                  KJ_X0_value_81 x2 r3 M2
                else none
              else
                KJ_X0_value_81 x2 r3 M2
            else none
          else
            some ((-4294967297), M)
      else
        some ((-4294967298), M)
def K_X0_variable (x1 : Int32) (x2 : Int32) (M : CM) : Option (Int32 × CM) :=
  if mI M 30 1 = 0 then
    some ((-4), M)
  else
    if x1 < 0 then
      some ((-2), M)
    else
      if x1 < mI M 15 1 then
        if x2 < 0 then
          some ((-1), M)
        else
          if x2 ≤ 6 then
            ob (K_J2_get 98 x1 M) fun r3 M2 =>
            if r3 = 0 ∨ mk M2 r3 = 17 then
            if x2 = 0 then
              if mk M2 r3 = 17 then
              some (mI M2 3203 r3, M2)
              else none
            else
            if x2 = 1 then
              if mk M2 r3 = 17 then
              if mk M2 (mR M2 3204 r3) = 50 ∧ inb (x2 - 1) (ml M2 (mR M2 3204 r3)) then
              some (mA M2 (mR M2 3204 r3) (ix (x2 - 1)), M2)
              else none
              else none
            else
            if x2 = 2 then
              if mk M2 r3 = 17 then
              if mk M2 (mR M2 3204 r3) = 50 ∧ inb (x2 - 1) (ml M2 (mR M2 3204 r3)) then
              some (mA M2 (mR M2 3204 r3) (ix (x2 - 1)), M2)
              else none
              else none
            else
            if x2 = 3 then
              if mk M2 r3 = 17 then
              if mk M2 (mR M2 3204 r3) = 50 ∧ inb (x2 - 1) (ml M2 (mR M2 3204 r3)) then
              some (mA M2 (mR M2 3204 r3) (ix (x2 - 1)), M2)
              else none
              else none
            else
            if x2 = 4 then
              ob (K_X0_nameLength x1 M2) fun r20 M19 =>
              some (r20, M19)
            else
            if x2 = 5 then
              if mk M2 r3 = 17 then
              if mI M2 3205 r3 = 0 then
                some (0, M2)
              else
                some (1, M2)
              else none
            else
            if x2 = 6 then
              if mk M2 r3 = 17 then
              if mk M2 (mR M2 3200 r3) = 14 then
              some (mI M2 2600 (mR M2 3200 r3), M2)
              else none
              else none
            else
            if mk M2 r3 = 17 then
            if mk M2 (mR M2 3204 r3) = 50 ∧ inb (x2 - 1) (ml M2 (mR M2 3204 r3)) then
            some (mA M2 (mR M2 3204 r3) (ix (x2 - 1)), M2)
            else none
            else none
            else none
          else
            some ((-1), M)
      else
        some ((-2), M)
