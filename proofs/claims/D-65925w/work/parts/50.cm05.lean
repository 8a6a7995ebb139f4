set_option maxRecDepth 100000
def KL_X2_both_5 (cf_X2_test : CM → Option ((Nat ⊕ Nat) × CM)) : Nat → Nat → CM → Option ((Nat ⊕ (Nat ⊕ Nat)) × CM)
  | 0, _, _ => none
  | n + 1, x1, M =>
    ob (K_X2_takeKey 23 M) fun r7 M6 =>
    if r7 = 0 then
      some (.inl x1, M6)
    else
      if mn M6 ≤ 601024 ∧ ms M6 + 8 ≤ 7293034 then
      nm (mn M6) fun v11 =>
      nm (mnew M6 8 0 8) fun M12 =>
      obS (cf_X2_test M12) (fun w17 M13 =>
          some (.inr (.inr w17), M13))
      fun r14 M13 =>
      if ¬ v11 = 0 then
      ob (K_X8_init_2 v11 23 x1 r14 0 M13) fun r20 M19 =>
      KL_X2_both_5 cf_X2_test n v11 M19
      else none
      else none
def KB_X2_both (cf_X2_test : CM → Option ((Nat ⊕ Nat) × CM)) (M : CM) : Option ((Nat ⊕ Nat) × CM) :=
  obS (cf_X2_test M) (fun w5 M1 =>
      some (.inr w5, M1))
  fun r2 M1 =>
  obS (KL_X2_both_5 cf_X2_test FU r2 M1) (fun r28 M25 => some (r28, M25)) fun q24 M25 =>
  some (.inl q24, M25)
def KL_X2_condition_5 (cf_X2_both : CM → Option ((Nat ⊕ Nat) × CM)) : Nat → Nat → CM → Option ((Nat ⊕ (Nat ⊕ Nat)) × CM)
  | 0, _, _ => none
  | n + 1, x1, M =>
    ob (K_X2_takeKey 24 M) fun r7 M6 =>
    if r7 = 0 then
      some (.inl x1, M6)
    else
      if mn M6 ≤ 601024 ∧ ms M6 + 8 ≤ 7293034 then
      nm (mn M6) fun v11 =>
      nm (mnew M6 8 0 8) fun M12 =>
      obS (cf_X2_both M12) (fun w17 M13 =>
          some (.inr (.inr w17), M13))
      fun r14 M13 =>
      if ¬ v11 = 0 then
      ob (K_X8_init_2 v11 24 x1 r14 0 M13) fun r20 M19 =>
      KL_X2_condition_5 cf_X2_both n v11 M19
      else none
      else none
def KB_X2_condition (cf_X2_both : CM → Option ((Nat ⊕ Nat) × CM)) (M : CM) : Option ((Nat ⊕ Nat) × CM) :=
  obS (cf_X2_both M) (fun w5 M1 =>
      some (.inr w5, M1))
  fun r2 M1 =>
  obS (KL_X2_condition_5 cf_X2_both FU r2 M1) (fun r28 M25 => some (r28, M25)) fun q24 M25 =>
  some (.inl q24, M25)
def KJ_X2_expression_31 (cf_X2_sum : CM → Option ((Nat ⊕ Nat) × CM)) (cf_X2_condition : CM → Option ((Nat ⊕ Nat) × CM)) (cf_X2_expression : CM → Option ((Nat ⊕ Nat) × CM)) (x1 : Int32) (M : CM) : Option ((Nat ⊕ Nat) × CM) :=
  ob (K_X2_takeKey 21 M) fun r4 M3 =>
  if r4 = 0 then
    obS (cf_X2_sum M3) (fun w50 M46 =>
        some (.inr w50, M46))
    fun r47 M46 =>
    some (.inl r47, M46)
  else
    obS (K_X2_deeper x1 M3) (fun w11 M7 =>
        some (.inr w11, M7))
    fun r8 M7 =>
    obS (cf_X2_condition M7) (fun w16 M12 =>
        some (.inr w16, M12))
    fun r13 M12 =>
    obS (K_X2_key 17 M12) (fun w21 M17 =>
        some (.inr w21, M17))
    fun r18 M17 =>
    obS (cf_X2_expression M17) (fun w26 M22 =>
        some (.inr w26, M22))
    fun r23 M22 =>
    obS (K_X2_key 22 M22) (fun w31 M27 =>
        some (.inr w31, M27))
    fun r28 M27 =>
    obS (cf_X2_expression M27) (fun w36 M32 =>
        some (.inr w36, M32))
    fun r33 M32 =>
    nm (msI M32 406 90 ((mI M32 406 90) - 1)) fun M37 =>
    if mn M37 ≤ 601024 ∧ ms M37 + 8 ≤ 7293034 then
    nm (mn M37) fun v39 =>
    nm (mnew M37 8 0 8) fun M40 =>
    if ¬ v39 = 0 then
    ob (K_X8_init_2 v39 21 r13 r23 r33 M40) fun r43 M42 =>
    some (.inl v39, M42)
    else none
    else none
def KB_X2_expression (cf_X2_sum : CM → Option ((Nat ⊕ Nat) × CM)) (cf_X2_condition : CM → Option ((Nat ⊕ Nat) × CM)) (cf_X2_expression : CM → Option ((Nat ⊕ Nat) × CM)) (M : CM) : Option ((Nat ⊕ Nat) × CM) :=
  if inb (mI M 405 90) 2001 then
  nm (mA M 94 (ix (mI M 405 90))) fun v2 =>
  if mR M 408 90 = 0 then
    KJ_X2_expression_31 cf_X2_sum cf_X2_condition cf_X2_expression v2 M
  else
    ob (K_X2_isKey 21 M) fun r53 M52 =>
    if r53 = 0 then
      KJ_X2_expression_31 cf_X2_sum cf_X2_condition cf_X2_expression v2 M52
    else
      ob (K_X2_stop M52) fun r57 M56 =>
      if mk M56 r57 = 7 then
      some (.inr r57, M56)
      else none
  else none
def KJ_X2_factor_184 (cf_X2_expression : CM → Option ((Nat ⊕ Nat) × CM)) (cf_X2_named : Int32 → CM → Option ((Nat ⊕ Nat) × CM)) (M : CM) : Option ((Nat ⊕ Nat) × CM) :=
  if inb (mI M 405 90) 2001 then
  nm (mA M 92 (ix (mI M 405 90))) fun v21 =>
  nm (msI M 405 90 ((mI M 405 90) + 1)) fun M22 =>
  obS (K_X2_opens M22) (fun w27 M23 =>
      some (.inr w27, M23))
  fun r24 M23 =>
  obS (K_X2_ref M23) (fun w32 M28 =>
      some (.inr w32, M28))
  fun r29 M28 =>
  obS (K_X2_closes M28) (fun w37 M33 =>
      some (.inr w37, M33))
  fun r34 M33 =>
  if mn M33 ≤ 601024 ∧ ms M33 + 8 ≤ 7293034 then
  nm (mn M33) fun v39 =>
  nm (mnew M33 8 0 8) fun M40 =>
  if ¬ v39 = 0 then
  ob (K_X8_init_2 v39 v21 r29 0 0 M40) fun r43 M42 =>
  some (.inl v39, M42)
  else none
  else none
  else none
def KJ_X2_factor_327 (cf_X2_expression : CM → Option ((Nat ⊕ Nat) × CM)) (cf_X2_named : Int32 → CM → Option ((Nat ⊕ Nat) × CM)) (x2 : Int32) (x3 : Nat) (M : CM) : Option ((Nat ⊕ Nat) × CM) :=
  obS (K_X2_sign 44 M) (fun w71 M67 =>
      some (.inr w71, M67))
  fun r68 M67 =>
  obS (cf_X2_expression M67) (fun w76 M72 =>
      some (.inr w76, M72))
  fun r73 M72 =>
  obS (K_X2_closes M72) (fun w81 M77 =>
      some (.inr w81, M77))
  fun r78 M77 =>
  if mn M77 ≤ 601024 ∧ ms M77 + 8 ≤ 7293034 then
  nm (mn M77) fun v83 =>
  nm (mnew M77 8 0 8) fun M84 =>
  if ¬ v83 = 0 then
  ob (K_X8_init_2 v83 x2 x3 r73 0 M84) fun r87 M86 =>
  some (.inl v83, M86)
  else none
  else none
def KJ_X2_factor_283 (cf_X2_expression : CM → Option ((Nat ⊕ Nat) × CM)) (cf_X2_named : Int32 → CM → Option ((Nat ⊕ Nat) × CM)) (M : CM) : Option ((Nat ⊕ Nat) × CM) :=
  if inb (mI M 405 90) 2001 then
  nm (mA M 92 (ix (mI M 405 90))) fun v55 =>
  nm (msI M 405 90 ((mI M 405 90) + 1)) fun M56 =>
  obS (K_X2_opens M56) (fun w61 M57 =>
      some (.inr w61, M57))
  fun r58 M57 =>
  obS (cf_X2_expression M57) (fun w66 M62 =>
      some (.inr w66, M62))
  fun r63 M62 =>
  if v55 = 33 then
    KJ_X2_factor_327 cf_X2_expression cf_X2_named v55 r63 M62
  else
    if v55 = 34 then
      KJ_X2_factor_327 cf_X2_expression cf_X2_named v55 r63 M62
    else
      obS (K_X2_closes M62) (fun w94 M90 =>
          some (.inr w94, M90))
      fun r91 M90 =>
      if mn M90 ≤ 601024 ∧ ms M90 + 8 ≤ 7293034 then
      nm (mn M90) fun v96 =>
      nm (mnew M90 8 0 8) fun M97 =>
      if ¬ v96 = 0 then
      ob (K_X8_init_2 v96 v55 r63 0 0 M97) fun r100 M99 =>
      some (.inl v96, M99)
      else none
      else none
  else none
def KJ_X2_factor_147 (cf_X2_expression : CM → Option ((Nat ⊕ Nat) × CM)) (cf_X2_named : Int32 → CM → Option ((Nat ⊕ Nat) × CM)) (M : CM) : Option ((Nat ⊕ Nat) × CM) :=
  ob (K_X2_takeKey 30 M) fun r13 M12 =>
  if r13 = 0 then
    ob (K_X2_isKey 26 M12) fun r17 M16 =>
    if r17 = 0 then
      ob (K_X2_isKey 27 M16) fun r47 M46 =>
      if r47 = 0 then
        ob (K_X2_isKey 31 M46) fun r51 M50 =>
        if r51 = 0 then
          ob (K_X2_isKey 32 M50) fun r106 M105 =>
          if r106 = 0 then
            ob (K_X2_isKey 35 M105) fun r110 M109 =>
            if r110 = 0 then
              ob (K_X2_isKey 36 M109) fun r114 M113 =>
              if r114 = 0 then
                ob (K_X2_isKey 33 M113) fun r118 M117 =>
                if r118 = 0 then
                  ob (K_X2_isKey 34 M117) fun r122 M121 =>
                  if r122 = 0 then
                    ob (K_X2_stop M121) fun r126 M125 =>
                    if mk M125 r126 = 7 then
                    some (.inr r126, M125)
                    else none
                  else
                    KJ_X2_factor_283 cf_X2_expression cf_X2_named M121
                else
                  KJ_X2_factor_283 cf_X2_expression cf_X2_named M117
              else
                KJ_X2_factor_283 cf_X2_expression cf_X2_named M113
            else
              KJ_X2_factor_283 cf_X2_expression cf_X2_named M109
          else
            KJ_X2_factor_283 cf_X2_expression cf_X2_named M105
        else
          KJ_X2_factor_283 cf_X2_expression cf_X2_named M50
      else
        KJ_X2_factor_184 cf_X2_expression cf_X2_named M46
    else
      KJ_X2_factor_184 cf_X2_expression cf_X2_named M16
  else
    if mn M12 ≤ 601024 ∧ ms M12 + 8 ≤ 7293034 then
    nm (mn M12) fun v139 =>
    nm (mnew M12 8 0 8) fun M140 =>
    if ¬ v139 = 0 then
    ob (K_X8_init v139 30 M140) fun r143 M142 =>
    some (.inl v139, M142)
    else none
    else none
def KB_X2_factor (cf_X2_expression : CM → Option ((Nat ⊕ Nat) × CM)) (cf_X2_named : Int32 → CM → Option ((Nat ⊕ Nat) × CM)) (M : CM) : Option ((Nat ⊕ Nat) × CM) :=
  if inb (mI M 405 90) 2001 then
  nm (mA M 94 (ix (mI M 405 90))) fun v2 =>
  if inb (mI M 405 90) 2001 then
  if mA M 91 (ix (mI M 405 90)) = 2 then
    if mn M ≤ 601024 ∧ ms M + 8 ≤ 7293034 then
    nm (mn M) fun v202 =>
    nm (mnew M 8 0 8) fun M203 =>
    if ¬ v202 = 0 then
    ob (K_X8_init v202 100 M203) fun r206 M205 =>
    if inb (mI M205 405 90) 2001 then
    if mk M205 v202 = 8 then
    nm (msI M205 1401 v202 (mA M205 92 (ix (mI M205 405 90)))) fun M211 =>
    nm (msI M211 405 90 ((mI M211 405 90) + 1)) fun M212 =>
    some (.inl v202, M212)
    else none
    else none
    else none
    else none
  else
    ob (K_X2_take 40 M) fun r5 M4 =>
    if r5 = 0 then
      ob (K_X2_isName M4) fun r9 M8 =>
      if r9 = 0 then
        if mR M8 408 90 = 0 then
          KJ_X2_factor_147 cf_X2_expression cf_X2_named M8
        else
          ob (K_X2_isKey 30 M8) fun r148 M147 =>
          if r148 = 0 then
            ob (K_X2_isKey 26 M147) fun r157 M156 =>
            if r157 = 0 then
              ob (K_X2_isKey 27 M156) fun r166 M165 =>
              if r166 = 0 then
                KJ_X2_factor_147 cf_X2_expression cf_X2_named M165
              else
                ob (K_X2_stop M165) fun r170 M169 =>
                if mk M169 r170 = 7 then
                some (.inr r170, M169)
                else none
            else
              ob (K_X2_stop M156) fun r161 M160 =>
              if mk M160 r161 = 7 then
              some (.inr r161, M160)
              else none
          else
            ob (K_X2_stop M147) fun r152 M151 =>
            if mk M151 r152 = 7 then
            some (.inr r152, M151)
            else none
      else
        obS (cf_X2_named v2 M8) (fun w182 M178 =>
            some (.inr w182, M178))
        fun r179 M178 =>
        some (.inl r179, M178)
    else
      obS (K_X2_deeper v2 M4) (fun w188 M184 =>
          some (.inr w188, M184))
      fun r185 M184 =>
      obS (cf_X2_expression M184) (fun w193 M189 =>
          some (.inr w193, M189))
      fun r190 M189 =>
      obS (K_X2_sign 41 M189) (fun w198 M194 =>
          some (.inr w198, M194))
      fun r195 M194 =>
      nm (msI M194 406 90 ((mI M194 406 90) - 1)) fun M199 =>
      some (.inl r190, M199)
  else none
  else none
def KL_X2_named_85 (cf_X2_expression : CM → Option ((Nat ⊕ Nat) × CM)) : Nat → Int32 → Nat → Nat → CM → Option ((Unit ⊕ (Nat ⊕ Nat)) × CM)
  | 0, _, _, _, _ => none
  | n + 1, x1, x3, x4, M =>
    if mk M x4 = 8 then
    obS (cf_X2_expression M) (fun w96 M92 =>
        some (.inr (.inr w96), M92))
    fun r93 M92 =>
    if mk M92 (mR M 1406 x4) = 22 then
    ob (K_J2_add (mR M 1406 x4) r93 M92) fun r99 M98 =>
    ob (K_X2_take 44 M98) fun r103 M102 =>
    if r103 = 0 then
      some (.inl (), M102)
    else
      KL_X2_named_85 cf_X2_expression n x1 x3 x4 M102
    else none
    else none
def KB_X2_named (cf_X2_expression : CM → Option ((Nat ⊕ Nat) × CM)) (x1 : Int32) (M : CM) : Option ((Nat ⊕ Nat) × CM) :=
  if inb (mI M 405 90) 2001 then
  nm (mA M 92 (ix (mI M 405 90))) fun v2 =>
  if inb ((mI M 405 90) + 1) 2001 then
  if mA M 91 (ix ((mI M 405 90) + 1)) = 40 then
    ob (K_X2_functionOf v2 M) fun r62 M61 =>
    if r62 = 0 then
      ob (K_X0_wrong 5 x1 M61) fun r136 M135 =>
      if mk M135 r136 = 7 then
      some (.inr r136, M135)
      else none
    else
      nm (msI M61 405 90 ((mI M61 405 90) + 1)) fun M65 =>
      obS (K_X2_opens M65) (fun w70 M66 =>
          some (.inr w70, M66))
      fun r67 M66 =>
      if mn M66 ≤ 601024 ∧ ms M66 + 8 ≤ 7293034 then
      nm (mn M66) fun v72 =>
      nm (mnew M66 8 0 8) fun M73 =>
      if ¬ v72 = 0 then
      ob (K_X8_init v72 108 M73) fun r76 M75 =>
      if mk M75 v72 = 8 then
      nm (msR M75 1407 v72 r62) fun M80 =>
      if mn M80 ≤ 601024 ∧ ms M80 + 3 ≤ 7293034 then
      nm (mn M80) fun v82 =>
      nm (mnew M80 22 0 3) fun M83 =>
      if ¬ v82 = 0 then
      ob (K_J2_init v82 M83) fun r86 M85 =>
      if mk M85 v72 = 8 then
      nm (msR M85 1406 v72 v82) fun M90 =>
      obS (KL_X2_named_85 cf_X2_expression FU x1 r62 v72 M90) (fun r134 M108 => some (r134, M108)) fun q107 M108 =>
      obS (K_X2_closes M108) (fun w114 M110 =>
          some (.inr w114, M110))
      fun r111 M110 =>
      if mk M110 v72 = 8 then
      if mk M110 (mR M110 1406 v72) = 22 then
      ob (K_J2_size (mR M110 1406 v72) M110) fun r118 M117 =>
      if mk M117 r62 = 6 then
      if mk M117 (mR M117 1001 r62) = 22 then
      ob (K_J2_size (mR M117 1001 r62) M117) fun r124 M123 =>
      if r118 = r124 then
        some (.inl v72, M123)
      else
        ob (K_X0_wrong 6 x1 M123) fun r128 M127 =>
        if mk M127 r128 = 7 then
        some (.inr r128, M127)
        else none
      else none
      else none
      else none
      else none
      else none
      else none
      else none
      else none
      else none
      else none
  else
    if mR M 408 90 = 0 then
      ob (K_X2_isLoop v2 M) fun r5 M4 =>
      if r5 = 0 then
        obS (K_X2_ref M4) (fun w12 M8 =>
            some (.inr w12, M8))
        fun r9 M8 =>
        some (.inl r9, M8)
      else
        if inb ((mI M4 405 90) + 1) 2001 then
        if mA M4 91 (ix ((mI M4 405 90) + 1)) = 46 then
          obS (K_X2_ref M4) (fun w18 M14 =>
              some (.inr w18, M14))
          fun r15 M14 =>
          some (.inl r15, M14)
        else
          if inb ((mI M4 405 90) + 1) 2001 then
          if mA M4 91 (ix ((mI M4 405 90) + 1)) = 91 then
            obS (K_X2_ref M4) (fun w24 M20 =>
                some (.inr w24, M20))
            fun r21 M20 =>
            some (.inl r21, M20)
          else
            nm (msI M4 405 90 ((mI M4 405 90) + 1)) fun M25 =>
            if mn M25 ≤ 601024 ∧ ms M25 + 8 ≤ 7293034 then
            nm (mn M25) fun v27 =>
            nm (mnew M25 8 0 8) fun M28 =>
            if ¬ v27 = 0 then
            ob (K_X8_init v27 102 M28) fun r31 M30 =>
            if mk M30 v27 = 8 then
            nm (msI M30 1401 v27 v2) fun M35 =>
            some (.inl v27, M35)
            else none
            else none
            else none
          else none
        else none
    else
      ob (K_X2_argument v2 M) fun r40 M39 =>
      if 0 ≤ r40 then
        nm (msI M39 405 90 ((mI M39 405 90) + 1)) fun M43 =>
        if mn M43 ≤ 601024 ∧ ms M43 + 8 ≤ 7293034 then
        nm (mn M43) fun v45 =>
        nm (mnew M43 8 0 8) fun M46 =>
        if ¬ v45 = 0 then
        ob (K_X8_init v45 109 M46) fun r49 M48 =>
        if mk M48 v45 = 8 then
        nm (msI M48 1401 v45 r40) fun M53 =>
        some (.inl v45, M53)
        else none
        else none
        else none
      else
        ob (K_X2_stop M39) fun r55 M54 =>
        if mk M54 r55 = 7 then
        some (.inr r55, M54)
        else none
  else none
  else none
def KJ_X2_sum_67_33 (cf_X2_term : CM → Option ((Nat ⊕ Nat) × CM)) (rec : Nat → CM → Option ((Nat ⊕ (Nat ⊕ Nat)) × CM)) (x2 : Nat) (y0 : Int32) (M : CM) : Option ((Nat ⊕ (Nat ⊕ Nat)) × CM) :=
  nm (msI M 405 90 ((mI M 405 90) + 1)) fun M18 =>
  if mn M18 ≤ 601024 ∧ ms M18 + 8 ≤ 7293034 then
  nm (mn M18) fun v20 =>
  nm (mnew M18 8 0 8) fun M21 =>
  obS (cf_X2_term M21) (fun w26 M22 =>
      some (.inr (.inr w26), M22))
  fun r23 M22 =>
  if ¬ v20 = 0 then
  ob (K_X8_init_2 v20 y0 x2 r23 0 M22) fun r29 M28 =>
  rec v20 M28
  else none
  else none
def KJ_X2_sum_51_33 (cf_X2_term : CM → Option ((Nat ⊕ Nat) × CM)) (rec : Nat → CM → Option ((Nat ⊕ (Nat ⊕ Nat)) × CM)) (x2 : Nat) (M : CM) : Option ((Nat ⊕ (Nat ⊕ Nat)) × CM) :=
  ob (K_X2_isSign 43 M) fun r15 M14 =>
  if r15 = 0 then
    KJ_X2_sum_67_33 cf_X2_term rec x2 104 M14
  else
    KJ_X2_sum_67_33 cf_X2_term rec x2 103 M14
def KL_X2_sum_33 (cf_X2_term : CM → Option ((Nat ⊕ Nat) × CM)) : Nat → Nat → CM → Option ((Nat ⊕ (Nat ⊕ Nat)) × CM)
  | 0, _, _ => none
  | n + 1, x2, M =>
    ob (K_X2_isSign 43 M) fun r11 M10 =>
    if r11 = 0 then
      ob (K_X2_isSign 45 M10) fun r34 M33 =>
      if r34 = 0 then
        some (.inl x2, M33)
      else
        KJ_X2_sum_51_33 cf_X2_term (KL_X2_sum_33 cf_X2_term n) x2 M33
    else
      KJ_X2_sum_51_33 cf_X2_term (KL_X2_sum_33 cf_X2_term n) x2 M10
def KJ_X2_sum_32 (cf_X2_term : CM → Option ((Nat ⊕ Nat) × CM)) (y0 : Nat) (M : CM) : Option ((Nat ⊕ Nat) × CM) :=
  obS (KL_X2_sum_33 cf_X2_term FU y0 M) (fun r43 M40 => some (r43, M40)) fun q39 M40 =>
  some (.inl q39, M40)
def KB_X2_sum (cf_X2_term : CM → Option ((Nat ⊕ Nat) × CM)) (M : CM) : Option ((Nat ⊕ Nat) × CM) :=
  ob (K_X2_take 45 M) fun r2 M1 =>
  obS (cf_X2_term M1) (fun w9 M5 =>
      some (.inr w9, M5))
  fun r6 M5 =>
  if r2 = 0 then
    KJ_X2_sum_32 cf_X2_term r6 M5
  else
    if mn M5 ≤ 601024 ∧ ms M5 + 8 ≤ 7293034 then
    nm (mn M5) fun v45 =>
    nm (mnew M5 8 0 8) fun M46 =>
    if ¬ v45 = 0 then
    ob (K_X8_init_2 v45 107 r6 0 0 M46) fun r49 M48 =>
    KJ_X2_sum_32 cf_X2_term v45 M48
    else none
    else none
def KJ_X2_term_39_5 (cf_X2_factor : CM → Option ((Nat ⊕ Nat) × CM)) (rec : Nat → CM → Option ((Nat ⊕ (Nat ⊕ Nat)) × CM)) (x1 : Nat) (y0 : Int32) (M : CM) : Option ((Nat ⊕ (Nat ⊕ Nat)) × CM) :=
  nm (msI M 405 90 ((mI M 405 90) + 1)) fun M14 =>
  if mn M14 ≤ 601024 ∧ ms M14 + 8 ≤ 7293034 then
  nm (mn M14) fun v16 =>
  nm (mnew M14 8 0 8) fun M17 =>
  obS (cf_X2_factor M17) (fun w22 M18 =>
      some (.inr (.inr w22), M18))
  fun r19 M18 =>
  if ¬ v16 = 0 then
  ob (K_X8_init_2 v16 y0 x1 r19 0 M18) fun r25 M24 =>
  rec v16 M24
  else none
  else none
def KJ_X2_term_23_5 (cf_X2_factor : CM → Option ((Nat ⊕ Nat) × CM)) (rec : Nat → CM → Option ((Nat ⊕ (Nat ⊕ Nat)) × CM)) (x1 : Nat) (M : CM) : Option ((Nat ⊕ (Nat ⊕ Nat)) × CM) :=
  ob (K_X2_isSign 42 M) fun r11 M10 =>
  if r11 = 0 then
    KJ_X2_term_39_5 cf_X2_factor rec x1 106 M10
  else
    KJ_X2_term_39_5 cf_X2_factor rec x1 105 M10
def KL_X2_term_5 (cf_X2_factor : CM → Option ((Nat ⊕ Nat) × CM)) : Nat → Nat → CM → Option ((Nat ⊕ (Nat ⊕ Nat)) × CM)
  | 0, _, _ => none
  | n + 1, x1, M =>
    ob (K_X2_isSign 42 M) fun r7 M6 =>
    if r7 = 0 then
      ob (K_X2_isSign 47 M6) fun r30 M29 =>
      if r30 = 0 then
        some (.inl x1, M29)
      else
        KJ_X2_term_23_5 cf_X2_factor (KL_X2_term_5 cf_X2_factor n) x1 M29
    else
      KJ_X2_term_23_5 cf_X2_factor (KL_X2_term_5 cf_X2_factor n) x1 M6
def KB_X2_term (cf_X2_factor : CM → Option ((Nat ⊕ Nat) × CM)) (M : CM) : Option ((Nat ⊕ Nat) × CM) :=
  obS (cf_X2_factor M) (fun w5 M1 =>
      some (.inr w5, M1))
  fun r2 M1 =>
  obS (KL_X2_term_5 cf_X2_factor FU r2 M1) (fun r39 M36 => some (r39, M36)) fun q35 M36 =>
  some (.inl q35, M36)
def KJ_X2_test_156 (cf_X2_test : CM → Option ((Nat ⊕ Nat) × CM)) (cf_X2_condition : CM → Option ((Nat ⊕ Nat) × CM)) (cf_X2_sum : CM → Option ((Nat ⊕ Nat) × CM)) (M : CM) : Option ((Nat ⊕ Nat) × CM) :=
  obS (cf_X2_sum M) (fun w17 M13 =>
      some (.inr w17, M13))
  fun r14 M13 =>
  ob (K_X2_relation M13) fun r19 M18 =>
  if 0 ≤ r19 then
    nm (msI M18 405 90 ((mI M18 405 90) + 1)) fun M22 =>
    if mn M22 ≤ 601024 ∧ ms M22 + 8 ≤ 7293034 then
    nm (mn M22) fun v24 =>
    nm (mnew M22 8 0 8) fun M25 =>
    obS (cf_X2_sum M25) (fun w30 M26 =>
        some (.inr w30, M26))
    fun r27 M26 =>
    if ¬ v24 = 0 then
    ob (K_X8_init_2 v24 r19 r14 r27 0 M26) fun r33 M32 =>
    some (.inl v24, M32)
    else none
    else none
  else
    ob (K_X2_stop M18) fun r37 M36 =>
    if mk M36 r37 = 7 then
    some (.inr r37, M36)
    else none
def KB_X2_test (cf_X2_test : CM → Option ((Nat ⊕ Nat) × CM)) (cf_X2_condition : CM → Option ((Nat ⊕ Nat) × CM)) (cf_X2_sum : CM → Option ((Nat ⊕ Nat) × CM)) (M : CM) : Option ((Nat ⊕ Nat) × CM) :=
  ob (K_X2_takeKey 25 M) fun r2 M1 =>
  if r2 = 0 then
    ob (K_X2_isKey 29 M1) fun r6 M5 =>
    if r6 = 0 then
      ob (K_X2_isSign 40 M5) fun r10 M9 =>
      if r10 = 0 then
        KJ_X2_test_156 cf_X2_test cf_X2_condition cf_X2_sum M9
      else
        ob (K_X2_beginsCondition M9) fun r43 M42 =>
        if r43 = 0 then
          KJ_X2_test_156 cf_X2_test cf_X2_condition cf_X2_sum M42
        else
          obS (K_X2_opens M42) (fun w50 M46 =>
              some (.inr w50, M46))
          fun r47 M46 =>
          obS (cf_X2_condition M46) (fun w55 M51 =>
              some (.inr w55, M51))
          fun r52 M51 =>
          obS (K_X2_closes M51) (fun w60 M56 =>
              some (.inr w60, M56))
          fun r57 M56 =>
          some (.inl r52, M56)
    else
      if mR M5 408 90 = 0 then
        nm (msI M5 405 90 ((mI M5 405 90) + 1)) fun M63 =>
        obS (K_X2_opens M63) (fun w68 M64 =>
            some (.inr w68, M64))
        fun r65 M64 =>
        if mn M64 ≤ 601024 ∧ ms M64 + 8 ≤ 7293034 then
        nm (mn M64) fun v70 =>
        nm (mnew M64 8 0 8) fun M71 =>
        if mn M71 ≤ 601024 ∧ ms M71 + 8 ≤ 7293034 then
        nm (mn M71) fun v73 =>
        nm (mnew M71 8 0 8) fun M74 =>
        if ¬ v73 = 0 then
        ob (K_X8_init v73 100 M74) fun r77 M76 =>
        if mn M76 ≤ 601024 ∧ ms M76 + 8 ≤ 7293034 then
        nm (mn M76) fun v81 =>
        nm (mnew M76 8 0 8) fun M82 =>
        if ¬ v81 = 0 then
        ob (K_X8_init v81 100 M82) fun r85 M84 =>
        if ¬ v70 = 0 then
        ob (K_X8_init_2 v70 29 v73 v81 0 M84) fun r90 M89 =>
        if mk M89 v70 = 8 then
        obS (K_X2_atLeast 0 M89) (fun w98 M94 =>
            some (.inr w98, M94))
        fun r95 M94 =>
        if mk M94 (mR M89 1402 v70) = 8 then
        nm (msI M94 1401 (mR M89 1402 v70) r95) fun M100 =>
        obS (K_X2_sign 44 M100) (fun w105 M101 =>
            some (.inr w105, M101))
        fun r102 M101 =>
        if mk M101 v70 = 8 then
        obS (K_X2_atLeast 1 M101) (fun w111 M107 =>
            some (.inr w111, M107))
        fun r108 M107 =>
        if mk M107 (mR M101 1403 v70) = 8 then
        nm (msI M107 1401 (mR M101 1403 v70) r108) fun M113 =>
        obS (K_X2_closes M113) (fun w118 M114 =>
            some (.inr w118, M114))
        fun r115 M114 =>
        some (.inl v70, M114)
        else none
        else none
        else none
        else none
        else none
        else none
        else none
        else none
        else none
        else none
      else
        ob (K_X2_stop M5) fun r120 M119 =>
        if mk M119 r120 = 7 then
        some (.inr r120, M119)
        else none
  else
    if mn M1 ≤ 601024 ∧ ms M1 + 8 ≤ 7293034 then
    nm (mn M1) fun v127 =>
    nm (mnew M1 8 0 8) fun M128 =>
    obS (cf_X2_test M128) (fun w133 M129 =>
        some (.inr w133, M129))
    fun r130 M129 =>
    if ¬ v127 = 0 then
    ob (K_X8_init_2 v127 25 r130 0 0 M129) fun r136 M135 =>
    some (.inl v127, M135)
    else none
    else none
def KG_X2_both : Nat → (CM → Option ((Nat ⊕ Nat) × CM)) × (CM → Option ((Nat ⊕ Nat) × CM)) × (CM → Option ((Nat ⊕ Nat) × CM)) × (CM → Option ((Nat ⊕ Nat) × CM)) × (Int32 → CM → Option ((Nat ⊕ Nat) × CM)) × (CM → Option ((Nat ⊕ Nat) × CM)) × (CM → Option ((Nat ⊕ Nat) × CM)) × (CM → Option ((Nat ⊕ Nat) × CM))
  | 0 => (fun _ => none, fun _ => none, fun _ => none, fun _ => none, fun _ _ => none, fun _ => none, fun _ => none, fun _ => none)
  | d + 1 => (KB_X2_both (KG_X2_both d).2.2.2.2.2.2.2, KB_X2_condition (KG_X2_both d).1, KB_X2_expression (KG_X2_both d).2.2.2.2.2.1 (KG_X2_both d).2.1 (KG_X2_both d).2.2.1, KB_X2_factor (KG_X2_both d).2.2.1 (KG_X2_both d).2.2.2.2.1, KB_X2_named (KG_X2_both d).2.2.1, KB_X2_sum (KG_X2_both d).2.2.2.2.2.2.1, KB_X2_term (KG_X2_both d).2.2.2.1, KB_X2_test (KG_X2_both d).2.2.2.2.2.2.2 (KG_X2_both d).2.1 (KG_X2_both d).2.2.2.2.2.1)
def K_X2_condition : CM → Option ((Nat ⊕ Nat) × CM) := (KG_X2_both 800).2.1
def K_X2_expression : CM → Option ((Nat ⊕ Nat) × CM) := (KG_X2_both 800).2.2.1
def KL_X2_function_56 : Nat → CM → Option ((Unit ⊕ (Unit ⊕ Nat)) × CM)
  | 0, _ => none
  | n + 1, M =>
    if inb (mI M 405 90) 2001 then
    nm (mA M 94 (ix (mI M 405 90))) fun v32 =>
    obS (K_X2_name M) (fun w37 M33 =>
        some (.inr (.inr w37), M33))
    fun r34 M33 =>
    ob (K_X2_argument r34 M33) fun r39 M38 =>
    if r39 < 0 then
      if mk M38 (mR M38 408 90) = 6 then
      ob (K_J16_valueOf r34 M38) fun r44 M43 =>
      if mk M43 (mR M38 1001 (mR M38 408 90)) = 22 then
      ob (K_J2_add (mR M38 1001 (mR M38 408 90)) r44 M43) fun r49 M48 =>
      if mk M48 (mR M48 408 90) = 6 then
      if mk M48 (mR M48 1001 (mR M48 408 90)) = 22 then
      ob (K_J2_size (mR M48 1001 (mR M48 408 90)) M48) fun r55 M54 =>
      if 4 ≤ r55 then
        some (.inl (), M54)
      else
        ob (K_X2_take 44 M54) fun r59 M58 =>
        if r59 = 0 then
          some (.inl (), M58)
        else
          KL_X2_function_56 n M58
      else none
      else none
      else none
      else none
    else
      ob (K_X0_wrong 3 v32 M38) fun r65 M64 =>
      if mk M64 r65 = 7 then
      some (.inr (.inr r65), M64)
      else none
    else none
def KJ_X2_function_123 (M : CM) : Option ((Unit ⊕ Nat) × CM) :=
  obS (K_X2_sign 41 M) (fun w77 M73 =>
      some (.inr w77, M73))
  fun r74 M73 =>
  obS (K_X2_sign 61 M73) (fun w82 M78 =>
      some (.inr w82, M78))
  fun r79 M78 =>
  obS (K_X2_expression M78) (fun w87 M83 =>
      some (.inr w87, M83))
  fun r84 M83 =>
  if mk M83 (mR M78 408 90) = 6 then
  nm (msR M83 1002 (mR M78 408 90) r84) fun M89 =>
  obS (K_X2_sign 59 M89) (fun w94 M90 =>
      some (.inr w94, M90))
  fun r91 M90 =>
  ob (K_J2_add 96 (mR M90 408 90) M90) fun r96 M95 =>
  nm (msR M95 408 90 0) fun M99 =>
  some (.inl (), M99)
  else none
def KJ_X2_function_44 (y0 : Nat) (y1 : Nat) (y2 : Int32) (M : CM) : Option ((Unit ⊕ Nat) × CM) :=
  if y1 = 90 ∧ mk M y1 = 3 then
  obS (K_X2_newName y2 M) (fun w23 M19 =>
      some (.inr w23, M19))
  fun r20 M19 =>
  if mk M19 y0 = 6 then
  nm (msI M19 1000 y0 r20) fun M25 =>
  obS (K_X2_sign 40 M25) (fun w30 M26 =>
      some (.inr w30, M26))
  fun r27 M26 =>
  obS (KL_X2_function_56 FU M26) (fun r101 M71 => some (r101, M71)) fun q70 M71 =>
  KJ_X2_function_123 M71
  else none
  else none
def K_X2_function (M : CM) : Option ((Unit ⊕ Nat) × CM) :=
  if mn M ≤ 601024 ∧ ms M + 3 ≤ 7293034 then
  nm (mn M) fun v2 =>
  nm (mnew M 6 0 3) fun M3 =>
  if ¬ v2 = 0 then
  ob (K_X6_init v2 M3) fun r6 M5 =>
  nm (msR M5 408 90 v2) fun M9 =>
  ob (K_J2_size 89 M9) fun r11 M10 =>
  ob (K_J2_size 96 M10) fun r15 M14 =>
  if r11 + r15 = 12 then
    KJ_X2_function_44 (mR M9 408 90) 90 1 M14
  else
    KJ_X2_function_44 (mR M9 408 90) 90 0 M14
  else none
  else none
def K_X10_init (x0 : Nat) (M : CM) : Option (Unit × CM) :=
  if ¬ x0 = 0 then
  if mn M ≤ 601024 ∧ ms M + 3 ≤ 7293034 then
  nm (mn M) fun v3 =>
  nm (mnew M 22 0 3) fun M4 =>
  if ¬ v3 = 0 then
  ob (K_J2_init v3 M4) fun r7 M6 =>
  if mk M6 x0 = 10 then
  nm (msR M6 1802 x0 v3) fun M11 =>
  if mn M11 ≤ 601024 ∧ ms M11 + 3 ≤ 7293034 then
  nm (mn M11) fun v13 =>
  nm (mnew M11 22 0 3) fun M14 =>
  if ¬ v13 = 0 then
  ob (K_J2_init v13 M14) fun r17 M16 =>
  if mk M16 x0 = 10 then
  nm (msR M16 1803 x0 v13) fun M21 =>
  some ((), M21)
  else none
  else none
  else none
  else none
  else none
  else none
  else none
def K_X2_tooMany (M : CM) : Option (Nat × CM) :=
  if inb (mI M 405 90) 2001 then
  if mA M 91 (ix (mI M 405 90)) = 3 then
    ob (K_X2_stop M) fun r3 M2 =>
    some (r3, M2)
  else
    if inb (mI M 405 90) 2001 then
    if mA M 91 (ix (mI M 405 90)) = 4 then
      ob (K_X2_stop M) fun r13 M12 =>
      some (r13, M12)
    else
      if inb (mI M 405 90) 2001 then
      ob (K_X0_wrong 7 (mA M 94 (ix (mI M 405 90))) M) fun r9 M8 =>
      some (r9, M8)
      else none
    else none
  else none
def K_X11_init (x0 : Nat) (M : CM) : Option (Unit × CM) :=
  if ¬ x0 = 0 then
  if mk M x0 = 11 then
  nm (msI M 2003 x0 (-1)) fun M3 =>
  if ¬ (3 : Int32) < 0 ∧ mn M3 ≤ 601024 ∧ ms M3 + ix 3 ≤ 7293034 then
  nm (mn M3) fun v5 =>
  nm (mnew M3 50 (ix 3) (ix 3)) fun M6 =>
  if mk M6 x0 = 11 then
  nm (msR M6 2005 x0 v5) fun M8 =>
  if mn M8 ≤ 601024 ∧ ms M8 + 3 ≤ 7293034 then
  nm (mn M8) fun v10 =>
  nm (mnew M8 22 0 3) fun M11 =>
  if ¬ v10 = 0 then
  ob (K_J2_init v10 M11) fun r14 M13 =>
  if mk M13 x0 = 11 then
  nm (msR M13 2006 x0 v10) fun M18 =>
  some ((), M18)
  else none
  else none
  else none
  else none
  else none
  else none
  else none
def K_X12_init (x0 : Nat) (M : CM) : Option (Unit × CM) :=
  if ¬ x0 = 0 then
  if mn M ≤ 601024 ∧ ms M + 3 ≤ 7293034 then
  nm (mn M) fun v3 =>
  nm (mnew M 22 0 3) fun M4 =>
  if ¬ v3 = 0 then
  ob (K_J2_init v3 M4) fun r7 M6 =>
  if mk M6 x0 = 12 then
  nm (msR M6 2200 x0 v3) fun M11 =>
  if mk M11 x0 = 12 then
  nm (msI M11 2203 x0 (-1)) fun M13 =>
  some ((), M13)
  else none
  else none
  else none
  else none
  else none
def KL_X2_mods_91 : Nat → Nat → Nat → CM → Option ((Unit ⊕ (Unit ⊕ Nat)) × CM)
  | 0, _, _, _ => none
  | n + 1, x1, x2, M =>
    if mk M x2 = 12 then
    if mI M 2201 x2 = 0 then
      ob (K_X2_take 46 M) fun r28 M27 =>
      if r28 = 0 then
        some (.inl (), M27)
      else
        ob (K_X2_takeKey 37 M27) fun r32 M31 =>
        if mk M31 x2 = 12 then
        nm (msI M31 2201 x2 r32) fun M36 =>
        if mk M36 x2 = 12 then
        if mI M36 2201 x2 = 0 then
          if mk M36 x2 = 12 then
          obS (K_X2_name M36) (fun w44 M40 =>
              some (.inr (.inr w44), M40))
          fun r41 M40 =>
          ob (K_J16_valueOf r41 M40) fun r46 M45 =>
          if mk M45 (mR M36 2200 x2) = 22 then
          ob (K_J2_add (mR M36 2200 x2) r46 M45) fun r51 M50 =>
          KL_X2_mods_91 n x1 x2 M50
          else none
          else none
        else
          KL_X2_mods_91 n x1 x2 M36
        else none
        else none
    else
      some (.inl (), M)
    else none
def KJ_X2_mods_142_10 (rec : Nat → CM → Option ((Unit ⊕ (Unit ⊕ Nat)) × CM)) (x1 : Nat) (x2 : Nat) (M : CM) : Option ((Unit ⊕ (Unit ⊕ Nat)) × CM) :=
  obS (K_X2_sign 61 M) (fun w64 M60 =>
      some (.inr (.inr w64), M60))
  fun r61 M60 =>
  obS (K_X2_expression M60) (fun w69 M65 =>
      some (.inr (.inr w69), M65))
  fun r66 M65 =>
  if mk M65 x2 = 12 then
  nm (msR M65 2202 x2 r66) fun M71 =>
  if mk M71 x1 = 11 then
  if mk M71 (mR M71 2006 x1) = 22 then
  ob (K_J2_add (mR M71 2006 x1) x2 M71) fun r75 M74 =>
  ob (K_X2_take 44 M74) fun r79 M78 =>
  if r79 = 0 then
    some (.inl (), M78)
  else
    rec x1 M78
  else none
  else none
  else none
def KL_X2_mods_10 : Nat → Nat → CM → Option ((Unit ⊕ (Unit ⊕ Nat)) × CM)
  | 0, _, _ => none
  | n + 1, x1, M =>
    if mn M ≤ 601024 ∧ ms M + 4 ≤ 7293034 then
    nm (mn M) fun v6 =>
    nm (mnew M 12 0 4) fun M7 =>
    if ¬ v6 = 0 then
    ob (K_X12_init v6 M7) fun r10 M9 =>
    ob (K_X2_takeKey 11 M9) fun r14 M13 =>
    if r14 = 0 then
      ob (K_X2_takeKey 37 M13) fun r18 M17 =>
      if mk M17 v6 = 12 then
      nm (msI M17 2201 v6 r18) fun M22 =>
      if mk M22 v6 = 12 then
      if mI M22 2201 v6 = 0 then
        if mk M22 v6 = 12 then
        obS (K_X2_name M22) (fun w90 M86 =>
            some (.inr (.inr w90), M86))
        fun r87 M86 =>
        ob (K_J16_valueOf r87 M86) fun r92 M91 =>
        if mk M91 (mR M22 2200 v6) = 22 then
        ob (K_J2_add (mR M22 2200 v6) r92 M91) fun r97 M96 =>
        obS (KL_X2_mods_91 FU x1 v6 M96) (fun r104 M101 => some (.inr r104, M101)) fun q100 M101 =>
        KJ_X2_mods_142_10 (KL_X2_mods_10 n) x1 v6 M101
        else none
        else none
      else
        obS (KL_X2_mods_91 FU x1 v6 M22) (fun r84 M58 => some (.inr r84, M58)) fun q57 M58 =>
        KJ_X2_mods_142_10 (KL_X2_mods_10 n) x1 v6 M58
      else none
      else none
    else
      if mk M13 v6 = 12 then
      obS (K_X2_name M13) (fun w111 M107 =>
          some (.inr (.inr w111), M107))
      fun r108 M107 =>
      ob (K_J16_valueOf r108 M107) fun r113 M112 =>
      if mk M112 (mR M13 2200 v6) = 22 then
      ob (K_J2_add (mR M13 2200 v6) r113 M112) fun r118 M117 =>
      obS (K_X2_sign 61 M117) (fun w125 M121 =>
          some (.inr (.inr w125), M121))
      fun r122 M121 =>
      obS (K_X2_name M121) (fun w130 M126 =>
          some (.inr (.inr w130), M126))
      fun r127 M126 =>
      if mk M126 v6 = 12 then
      nm (msI M126 2203 v6 r127) fun M132 =>
      if mk M132 x1 = 11 then
      if mk M132 (mR M132 2006 x1) = 22 then
      ob (K_J2_add (mR M132 2006 x1) v6 M132) fun r136 M135 =>
      ob (K_X2_take 44 M135) fun r140 M139 =>
      if r140 = 0 then
        some (.inl (), M139)
      else
        KL_X2_mods_10 n x1 M139
      else none
      else none
      else none
      else none
      else none
    else none
    else none
def K_X2_mods (x1 : Nat) (M : CM) : Option ((Unit ⊕ Nat) × CM) :=
  ob (K_X2_take 40 M) fun r2 M1 =>
  if r2 = 0 then
    some (.inl (), M1)
  else
    obS (KL_X2_mods_10 FU x1 M1) (fun r154 M146 => some (r154, M146)) fun q145 M146 =>
    obS (K_X2_sign 41 M146) (fun w152 M148 =>
        some (.inr w152, M148))
    fun r149 M148 =>
    some (.inl (), M148)
def K_X2_isPrefix (x1 : Int32) (M : CM) : Option (Int32 × CM) :=
  if x1 < 5 then
    some (0, M)
  else
    if 10 < x1 then
      some (0, M)
    else
      some (1, M)
def KJ_X2_isRight_147 (x1 : Nat) (M : CM) : Option (Int32 × CM) :=
  if mk M (mR M 411 90) = 10 then
  if mI M 1801 (mR M 411 90) = 0 then
    if mk M x1 = 11 then
    if mR M 2007 x1 = 0 then
      some (1, M)
    else
      if mk M x1 = 11 then
      ob (K_X11_isReal x1 M) fun r42 M41 =>
      if r42 = 0 then
        some (0, M41)
      else
        some (1, M41)
      else none
    else none
  else
    if mk M x1 = 11 then
    ob (K_X11_isReal x1 M) fun r49 M48 =>
    if r49 = 0 then
      some (0, M48)
    else
      if mk M48 x1 = 11 then
      if mR M48 2007 x1 = 0 then
        if mk M48 x1 = 11 then
        if mR M48 2007 x1 = 0 then
          some (1, M48)
        else
          if mk M48 x1 = 11 then
          ob (K_X11_isReal x1 M48) fun r56 M55 =>
          if r56 = 0 then
            some (0, M55)
          else
            some (1, M55)
          else none
        else none
      else
        some (0, M48)
      else none
    else none
  else none
def KJ_X2_isRight_118 (x1 : Nat) (x2 : Int32) (M : CM) : Option (Int32 × CM) :=
  if mk M x1 = 11 then
  ob (K_X11_is x1 9 M) fun r34 M33 =>
  if r34 = 0 then
    KJ_X2_isRight_147 x1 M33
  else
    if x2 = 0 then
      if mk M33 x1 = 11 then
      if mR M33 2007 x1 = 0 then
        if mk M33 x1 = 11 then
        if mI M33 2004 x1 ≤ 0 then
          KJ_X2_isRight_147 x1 M33
        else
          some (0, M33)
        else none
      else
        some (0, M33)
      else none
    else
      some (0, M33)
  else none
def KJ_X2_isRight_98 (x1 : Nat) (x2 : Int32) (M : CM) : Option (Int32 × CM) :=
  if mk M x1 = 11 then
  ob (K_X11_is x1 8 M) fun r29 M28 =>
  if r29 = 0 then
    KJ_X2_isRight_118 x1 x2 M28
  else
    if mk M28 x1 = 11 then
    ob (K_X11_is x1 9 M28) fun r72 M71 =>
    if r72 = 0 then
      KJ_X2_isRight_118 x1 x2 M71
    else
      some (0, M71)
    else none
  else none
def KJ_X2_isRight_82 (x1 : Nat) (x2 : Int32) (M : CM) : Option (Int32 × CM) :=
  if mk M x1 = 11 then
  ob (K_X11_is x1 10 M) fun r24 M23 =>
  if r24 = 0 then
    KJ_X2_isRight_98 x1 x2 M23
  else
    if mk M23 x1 = 11 then
    ob (K_X11_isReal x1 M23) fun r79 M78 =>
    if r79 = 0 then
      KJ_X2_isRight_98 x1 x2 M78
    else
      some (0, M78)
    else none
  else none
def KJ_X2_isRight_61 (x1 : Nat) (x2 : Int32) (M : CM) : Option (Int32 × CM) :=
  if mk M x1 = 11 then
  ob (K_X11_is x1 6 M) fun r19 M18 =>
  if r19 = 0 then
    KJ_X2_isRight_82 x1 x2 M18
  else
    if mk M18 (mR M18 411 90) = 10 then
    if mI M18 1801 (mR M18 411 90) = 0 then
      some (0, M18)
    else
      KJ_X2_isRight_82 x1 x2 M18
    else none
  else none
def KJ_X2_isRight_42 (x1 : Nat) (x2 : Int32) (y0 : Int32) (y1 : Int32) (M : CM) : Option (Int32 × CM) :=
  nm (y0 + y1) fun v16 =>
  if 1 < v16 then
    some (0, M)
  else
    if v16 = 1 then
      if mk M x1 = 11 then
      ob (K_X11_isReal x1 M) fun r90 M89 =>
      if r90 = 0 then
        some (0, M89)
      else
        KJ_X2_isRight_61 x1 x2 M89
      else none
    else
      KJ_X2_isRight_61 x1 x2 M
def KJ_X2_isRight_27 (x1 : Nat) (x2 : Int32) (y0 : Int32) (y1 : Int32) (M : CM) : Option (Int32 × CM) :=
  if mk M x1 = 11 then
  ob (K_X11_is x1 6 M) fun r13 M12 =>
  if r13 = 0 then
    KJ_X2_isRight_42 x1 x2 (y0 + y1) 0 M12
  else
    KJ_X2_isRight_42 x1 x2 (y0 + y1) 1 M12
  else none
def KJ_X2_isRight_13 (x1 : Nat) (x2 : Int32) (y0 : Int32) (M : CM) : Option (Int32 × CM) :=
  if mk M x1 = 11 then
  ob (K_X11_is x1 7 M) fun r8 M7 =>
  if r8 = 0 then
    KJ_X2_isRight_27 x1 x2 y0 0 M7
  else
    KJ_X2_isRight_27 x1 x2 y0 1 M7
  else none
def K_X2_isRight (x1 : Nat) (x2 : Int32) (M : CM) : Option (Int32 × CM) :=
  if mk M x1 = 11 then
  ob (K_X11_is x1 5 M) fun r3 M2 =>
  if r3 = 0 then
    KJ_X2_isRight_13 x1 x2 0 M2
  else
    KJ_X2_isRight_13 x1 x2 1 M2
  else none
def KL_X2_element_53 : Nat → Nat → CM → Option ((Unit ⊕ (Unit ⊕ Nat)) × CM)
  | 0, _, _ => none
  | n + 1, x1, M =>
    if inb (mI M 405 90) 2001 then
    if mA M 91 (ix (mI M 405 90)) = 1 then
      if inb (mI M 405 90) 2001 then
      ob (K_X2_isPrefix (mA M 92 (ix (mI M 405 90))) M) fun r16 M15 =>
      if r16 = 0 then
        some (.inl (), M15)
      else
        if inb (mI M15 405 90) 2001 then
        if mk M15 x1 = 11 then
        ob (K_X11_is x1 (mA M15 92 (ix (mI M15 405 90))) M15) fun r22 M21 =>
        if r22 = 0 then
          if mk M21 x1 = 11 then
          if inb (mI M21 405 90) 2001 then
          if mk M21 x1 = 11 then
          nm (msI M21 2001 x1 ((mI M21 2001 x1) ||| (1 <<< ((mA M21 92 (ix (mI M21 405 90))) &&& 31)))) fun M28 =>
          nm (msI M28 405 90 ((mI M28 405 90) + 1)) fun M29 =>
          KL_X2_element_53 n x1 M29
          else none
          else none
          else none
        else
          ob (K_X2_stop M21) fun r31 M30 =>
          if mk M30 r31 = 7 then
          some (.inr (.inr r31), M30)
          else none
        else none
        else none
      else none
    else
      some (.inl (), M)
    else none
def KL_X2_element_331 : Nat → Nat → Int32 → Int32 → CM → Option ((Unit ⊕ (Unit ⊕ Nat)) × CM)
  | 0, _, _, _, _ => none
  | n + 1, x1, x2, x4, M =>
    if mk M (mR M 411 90) = 10 then
    if mk M (mR M 1802 (mR M 411 90)) = 22 then
    ob (K_J2_size (mR M 1802 (mR M 411 90)) M) fun r90 M89 =>
    if r90 ≤ x4 then
      some (.inl (), M89)
    else
      if mk M89 (mR M89 411 90) = 10 then
      if mk M89 (mR M89 1802 (mR M89 411 90)) = 22 then
      ob (K_J2_get (mR M89 1802 (mR M89 411 90)) x4 M89) fun r96 M95 =>
      if r96 = 0 ∨ mk M95 r96 = 11 then
      if mk M95 r96 = 11 then
      if mk M95 x1 = 11 then
      if mI M95 2003 r96 = mI M95 2003 x1 then
        ob (K_X0_wrong 3 x2 M95) fun r104 M103 =>
        if mk M103 r104 = 7 then
        some (.inr (.inr r104), M103)
        else none
      else
        nm (x4 + 1) fun v102 =>
        KL_X2_element_331 n x1 x2 v102 M95
      else none
      else none
      else none
      else none
      else none
    else none
    else none
def KJ_X2_element_307 (x1 : Nat) (x2 : Int32) (x3 : Int32) (M : CM) : Option ((Unit ⊕ Nat) × CM) :=
  obS (K_X2_sign 59 M) (fun w82 M78 =>
      some (.inr w82, M78))
  fun r79 M78 =>
  ob (K_X2_isRight x1 x3 M78) fun r84 M83 =>
  if r84 = 0 then
    ob (K_X0_wrong 4 x2 M83) fun r122 M121 =>
    if mk M121 r122 = 7 then
    some (.inr r122, M121)
    else none
  else
    obS (KL_X2_element_331 FU x1 x2 0 M83) (fun r120 M111 => some (r120, M111)) fun q110 M111 =>
    if mk M111 (mR M111 411 90) = 10 then
    if mk M111 (mR M111 1802 (mR M111 411 90)) = 22 then
    ob (K_J2_add (mR M111 1802 (mR M111 411 90)) x1 M111) fun r116 M115 =>
    some (.inl (), M115)
    else none
    else none
def KJ_X2_element_278 (x1 : Nat) (x2 : Int32) (M : CM) : Option ((Unit ⊕ Nat) × CM) :=
  ob (K_X2_isSign 40 M) fun r66 M65 =>
  obS (K_X2_mods x1 M65) (fun w73 M69 =>
      some (.inr w73, M69))
  fun r70 M69 =>
  ob (K_X2_take 61 M69) fun r75 M74 =>
  if r75 = 0 then
    KJ_X2_element_307 x1 x2 r66 M74
  else
    obS (K_X2_expression M74) (fun w131 M127 =>
        some (.inr w131, M127))
    fun r128 M127 =>
    if mk M127 x1 = 11 then
    nm (msR M127 2007 x1 r128) fun M133 =>
    KJ_X2_element_307 x1 x2 r66 M133
    else none
def KJ_X2_element_234 (x1 : Nat) (M : CM) : Option ((Unit ⊕ Nat) × CM) :=
  if inb (mI M 405 90) 2001 then
  nm (mA M 94 (ix (mI M 405 90))) fun v53 =>
  obS (K_X2_name M) (fun w58 M54 =>
      some (.inr w58, M54))
  fun r55 M54 =>
  if mk M54 x1 = 11 then
  nm (msI M54 2003 x1 r55) fun M60 =>
  ob (K_X2_take 91 M60) fun r62 M61 =>
  if r62 = 0 then
    KJ_X2_element_278 x1 v53 M61
  else
    obS (K_X2_number 1 9 M61) (fun w139 M135 =>
        some (.inr w139, M135))
    fun r136 M135 =>
    if mk M135 x1 = 11 then
    nm (msI M135 2004 x1 r136) fun M141 =>
    obS (K_X2_sign 93 M141) (fun w146 M142 =>
        some (.inr w146, M142))
    fun r143 M142 =>
    KJ_X2_element_278 x1 v53 M142
    else none
  else none
  else none
def KJ_X2_element_177_162 (rec : Nat → Int32 → CM → Option ((Unit ⊕ (Unit ⊕ Nat)) × CM)) (x1 : Nat) (x2 : Int32) (M : CM) : Option ((Unit ⊕ (Unit ⊕ Nat)) × CM) :=
  ob (K_X2_take 45 M) fun r155 M154 =>
  obS (K_X2_number 0 7 M154) (fun w162 M158 =>
      some (.inr (.inr w162), M158))
  fun r159 M158 =>
  if mk M158 x1 = 11 then
  if r155 = 0 then
    if mk M158 (mR M158 2005 x1) = 50 ∧ inb x2 (ml M158 (mR M158 2005 x1)) then
    nm (mwA M158 (mR M158 2005 x1) (ix x2) r159) fun M165 =>
    nm (x2 + 1) fun v166 =>
    rec x1 v166 M165
    else none
  else
    if mk M158 (mR M158 2005 x1) = 50 ∧ inb x2 (ml M158 (mR M158 2005 x1)) then
    nm (mwA M158 (mR M158 2005 x1) (ix x2) (-r159)) fun M168 =>
    nm (x2 + 1) fun v169 =>
    rec x1 v169 M168
    else none
  else none
def KL_X2_element_162 : Nat → Nat → Int32 → CM → Option ((Unit ⊕ (Unit ⊕ Nat)) × CM)
  | 0, _, _, _ => none
  | n + 1, x1, x2, M =>
    if 3 ≤ x2 then
      some (.inl (), M)
    else
      if x2 ≤ 0 then
        KJ_X2_element_177_162 (KL_X2_element_162 n) x1 x2 M
      else
        obS (K_X2_sign 44 M) (fun w175 M171 =>
            some (.inr (.inr w175), M171))
        fun r172 M171 =>
        KJ_X2_element_177_162 (KL_X2_element_162 n) x1 x2 M171
def KJ_X2_element_136 (x1 : Nat) (M : CM) : Option ((Unit ⊕ Nat) × CM) :=
  ob (K_X2_takeKey 12 M) fun r42 M41 =>
  if r42 = 0 then
    obS (K_X2_name M41) (fun w49 M45 =>
        some (.inr w49, M45))
    fun r46 M45 =>
    if mk M45 x1 = 11 then
    nm (msI M45 2002 x1 r46) fun M51 =>
    KJ_X2_element_234 x1 M51
    else none
  else
    if mk M41 x1 = 11 then
    nm (msI M41 2002 x1 12) fun M149 =>
    ob (K_X2_take 60 M149) fun r151 M150 =>
    if r151 = 0 then
      KJ_X2_element_234 x1 M150
    else
      obS (KL_X2_element_162 FU x1 0 M150) (fun r187 M179 => some (r187, M179)) fun q178 M179 =>
      obS (K_X2_sign 62 M179) (fun w185 M181 =>
          some (.inr w185, M181))
      fun r182 M181 =>
      KJ_X2_element_234 x1 M181
    else none
def K_X2_element (M : CM) : Option ((Unit ⊕ Nat) × CM) :=
  if mn M ≤ 601024 ∧ ms M + 8 ≤ 7293034 then
  nm (mn M) fun v2 =>
  nm (mnew M 11 0 8) fun M3 =>
  if ¬ v2 = 0 then
  ob (K_X11_init v2 M3) fun r6 M5 =>
  ob (K_X2_takeKey 4 M5) fun r10 M9 =>
  if r10 = 0 then
    obS (KL_X2_element_53 FU v2 M9) (fun r191 M39 => some (r191, M39)) fun q38 M39 =>
    KJ_X2_element_136 v2 M39
  else
    if mk M9 v2 = 11 then
    nm (msI M9 2000 v2 1) fun M193 =>
    obS (K_X2_name M193) (fun w198 M194 =>
        some (.inr w198, M194))
    fun r195 M194 =>
    if mk M194 v2 = 11 then
    nm (msI M194 2002 v2 r195) fun M200 =>
    obS (K_X2_mods v2 M200) (fun w205 M201 =>
        some (.inr w205, M201))
    fun r202 M201 =>
    obS (K_X2_sign 59 M201) (fun w210 M206 =>
        some (.inr w210, M206))
    fun r207 M206 =>
    if mk M206 (mR M206 411 90) = 10 then
    if mk M206 (mR M206 1802 (mR M206 411 90)) = 22 then
    ob (K_J2_add (mR M206 1802 (mR M206 411 90)) v2 M206) fun r214 M213 =>
    some (.inl (), M213)
    else none
    else none
    else none
    else none
  else none
  else none
def K_X13_init (x0 : Nat) (x1 : Int32) (M : CM) : Option (Unit × CM) :=
  if ¬ x0 = 0 then
  if mn M ≤ 601024 ∧ ms M + 3 ≤ 7293034 then
  nm (mn M) fun v3 =>
  nm (mnew M 22 0 3) fun M4 =>
  if ¬ v3 = 0 then
  ob (K_J2_init v3 M4) fun r7 M6 =>
  if mk M6 x0 = 13 then
  nm (msR M6 2406 x0 v3) fun M11 =>
  if mn M11 ≤ 601024 ∧ ms M11 + 3 ≤ 7293034 then
  nm (mn M11) fun v13 =>
  nm (mnew M11 22 0 3) fun M14 =>
  if ¬ v13 = 0 then
  ob (K_J2_init v13 M14) fun r17 M16 =>
  if mk M16 x0 = 13 then
  nm (msR M16 2407 x0 v13) fun M21 =>
  if mk M21 x0 = 13 then
  nm (msI M21 2400 x0 x1) fun M23 =>
  some ((), M23)
  else none
  else none
  else none
  else none
  else none
  else none
  else none
  else none
def KJ_X2_when_52_24 (rec : Nat → CM → Option ((Unit ⊕ (Nat ⊕ Nat)) × CM)) (x1 : Nat) (y0 : Nat) (y1 : Nat) (y2 : Int32) (M : CM) : Option ((Unit ⊕ (Nat ⊕ Nat)) × CM) :=
  if ¬ y1 = 0 then
  ob (K_X13_init y1 y2 M) fun r34 M33 =>
  ob (K_X2_takeKey 28 M33) fun r38 M37 =>
  if r38 = 0 then
    obS (K_X2_ref M37) (fun w45 M41 =>
        some (.inr (.inr w45), M41))
    fun r42 M41 =>
    if mk M41 y0 = 13 then
    nm (msR M41 2401 y0 r42) fun M47 =>
    obS (K_X2_sign 61 M47) (fun w52 M48 =>
        some (.inr (.inr w52), M48))
    fun r49 M48 =>
    obS (K_X2_expression M48) (fun w57 M53 =>
        some (.inr (.inr w57), M53))
    fun r54 M53 =>
    if mk M53 y0 = 13 then
    nm (msR M53 2402 y0 r54) fun M59 =>
    obS (K_X2_sign 59 M59) (fun w64 M60 =>
        some (.inr (.inr w64), M60))
    fun r61 M60 =>
    if mk M60 x1 = 13 then
    if mk M60 (mR M60 2406 x1) = 22 then
    ob (K_J2_add (mR M60 2406 x1) y0 M60) fun r68 M67 =>
    rec x1 M67
    else none
    else none
    else none
    else none
  else
    obS (K_X2_sign 40 M37) (fun w75 M71 =>
        some (.inr (.inr w75), M71))
    fun r72 M71 =>
    obS (K_X2_ref M71) (fun w80 M76 =>
        some (.inr (.inr w80), M76))
    fun r77 M76 =>
    if mk M76 y0 = 13 then
    nm (msR M76 2401 y0 r77) fun M82 =>
    obS (K_X2_sign 44 M82) (fun w87 M83 =>
        some (.inr (.inr w87), M83))
    fun r84 M83 =>
    obS (K_X2_expression M83) (fun w92 M88 =>
        some (.inr (.inr w92), M88))
    fun r89 M88 =>
    if mk M88 y0 = 13 then
    nm (msR M88 2402 y0 r89) fun M94 =>
    obS (K_X2_sign 41 M94) (fun w99 M95 =>
        some (.inr (.inr w99), M95))
    fun r96 M95 =>
    obS (K_X2_sign 59 M95) (fun w104 M100 =>
        some (.inr (.inr w104), M100))
    fun r101 M100 =>
    if mk M100 x1 = 13 then
    if mk M100 (mR M100 2406 x1) = 22 then
    ob (K_J2_add (mR M100 2406 x1) y0 M100) fun r108 M107 =>
    rec x1 M107
    else none
    else none
    else none
    else none
  else none
def KL_X2_when_24 : Nat → Nat → CM → Option ((Unit ⊕ (Nat ⊕ Nat)) × CM)
  | 0, _, _ => none
  | n + 1, x1, M =>
    ob (K_X2_isKey 3 M) fun r22 M21 =>
    if r22 = 0 then
      if mn M21 ≤ 601024 ∧ ms M21 + 8 ≤ 7293034 then
      nm (mn M21) fun v26 =>
      nm (mnew M21 13 0 8) fun M27 =>
      ob (K_X2_isKey 28 M27) fun r29 M28 =>
      if r29 = 0 then
        KJ_X2_when_52_24 (KL_X2_when_24 n) x1 v26 v26 61 M28
      else
        KJ_X2_when_52_24 (KL_X2_when_24 n) x1 v26 v26 28 M28
      else none
    else
      some (.inl (), M21)
def K_X2_when (M : CM) : Option ((Nat ⊕ Nat) × CM) :=
  if mn M ≤ 601024 ∧ ms M + 8 ≤ 7293034 then
  nm (mn M) fun v2 =>
  nm (mnew M 13 0 8) fun M3 =>
  if ¬ v2 = 0 then
  ob (K_X13_init v2 16 M3) fun r6 M5 =>
  obS (K_X2_condition M5) (fun w13 M9 =>
      some (.inr w13, M9))
  fun r10 M9 =>
  if mk M9 v2 = 13 then
  nm (msR M9 2401 v2 r10) fun M15 =>
  obS (K_X2_key 17 M15) (fun w20 M16 =>
      some (.inr w20, M16))
  fun r17 M16 =>
  obS (KL_X2_when_24 FU v2 M16) (fun r128 M115 => some (r128, M115)) fun q114 M115 =>
  obS (K_X2_key 3 M115) (fun w121 M117 =>
      some (.inr w121, M117))
  fun r118 M117 =>
  obS (K_X2_sign 59 M117) (fun w126 M122 =>
      some (.inr w126, M122))
  fun r123 M122 =>
  some (.inl v2, M122)
  else none
  else none
  else none
def KB_X2_equation (cf_X2_equations : Nat → Int32 → CM → Option ((Unit ⊕ Nat) × CM)) (cf_X2_ifEquation : Int32 → CM → Option ((Nat ⊕ Nat) × CM)) (x1 : Int32) (M : CM) : Option ((Nat ⊕ Nat) × CM) :=
  if inb (mI M 405 90) 2001 then
  nm (mA M 94 (ix (mI M 405 90))) fun v2 =>
  ob (K_X2_takeKey 15 M) fun r4 M3 =>
  if r4 = 0 then
    ob (K_X2_takeKey 18 M3) fun r8 M7 =>
    if r8 = 0 then
      ob (K_X2_isKey 21 M7) fun r12 M11 =>
      if r12 = 0 then
        ob (K_X2_isKey 16 M11) fun r16 M15 =>
        if r16 = 0 then
          if mn M15 ≤ 601024 ∧ ms M15 + 8 ≤ 7293034 then
          nm (mn M15) fun v20 =>
          nm (mnew M15 13 0 8) fun M21 =>
          if ¬ v20 = 0 then
          ob (K_X13_init v20 61 M21) fun r24 M23 =>
          obS (K_X2_expression M23) (fun w31 M27 =>
              some (.inr w31, M27))
          fun r28 M27 =>
          if mk M27 v20 = 13 then
          nm (msR M27 2401 v20 r28) fun M33 =>
          obS (K_X2_sign 61 M33) (fun w38 M34 =>
              some (.inr w38, M34))
          fun r35 M34 =>
          obS (K_X2_expression M34) (fun w43 M39 =>
              some (.inr w43, M39))
          fun r40 M39 =>
          if mk M39 v20 = 13 then
          nm (msR M39 2402 v20 r40) fun M45 =>
          obS (K_X2_sign 59 M45) (fun w50 M46 =>
              some (.inr w50, M46))
          fun r47 M46 =>
          some (.inl v20, M46)
          else none
          else none
          else none
          else none
        else
          if x1 = 0 then
            ob (K_X2_stop M15) fun r58 M57 =>
            if mk M57 r58 = 7 then
            some (.inr r58, M57)
            else none
          else
            nm (msI M15 405 90 ((mI M15 405 90) + 1)) fun M51 =>
            obS (K_X2_when M51) (fun w56 M52 =>
                some (.inr w56, M52))
            fun r53 M52 =>
            some (.inl r53, M52)
      else
        obS (cf_X2_ifEquation v2 M11) (fun w68 M64 =>
            some (.inr w68, M64))
        fun r65 M64 =>
        some (.inl r65, M64)
    else
      obS (K_X2_deeper v2 M7) (fun w74 M70 =>
          some (.inr w74, M70))
      fun r71 M70 =>
      if mn M70 ≤ 601024 ∧ ms M70 + 8 ≤ 7293034 then
      nm (mn M70) fun v76 =>
      nm (mnew M70 13 0 8) fun M77 =>
      if ¬ v76 = 0 then
      ob (K_X13_init v76 18 M77) fun r80 M79 =>
      obS (K_X2_name M79) (fun w87 M83 =>
          some (.inr w87, M83))
      fun r84 M83 =>
      if mk M83 v76 = 13 then
      nm (msI M83 2403 v76 r84) fun M89 =>
      obS (K_X2_key 19 M89) (fun w94 M90 =>
          some (.inr w94, M90))
      fun r91 M90 =>
      obS (K_X2_number 0 99 M90) (fun w99 M95 =>
          some (.inr w99, M95))
      fun r96 M95 =>
      if mk M95 v76 = 13 then
      nm (msI M95 2404 v76 r96) fun M101 =>
      obS (K_X2_sign 58 M101) (fun w106 M102 =>
          some (.inr w106, M102))
      fun r103 M102 =>
      obS (K_X2_number 0 99 M102) (fun w111 M107 =>
          some (.inr w111, M107))
      fun r108 M107 =>
      if mk M107 v76 = 13 then
      nm (msI M107 2405 v76 r108) fun M113 =>
      obS (K_X2_key 20 M113) (fun w118 M114 =>
          some (.inr w118, M114))
      fun r115 M114 =>
      if mk M114 v76 = 13 then
      ob (K_J16_valueOf (mI M114 2403 v76) M114) fun r121 M120 =>
      ob (K_J2_add 95 r121 M120) fun r125 M124 =>
      if mk M124 v76 = 13 then
      obS (cf_X2_equations (mR M124 2406 v76) 0 M124) (fun w133 M129 =>
          some (.inr w133, M129))
      fun r130 M129 =>
      ob (K_J2_size 95 M129) fun r135 M134 =>
      ob (K_J2_remove 95 (r135 - 1) M134) fun r139 M138 =>
      obS (K_X2_key 3 M138) (fun w146 M142 =>
          some (.inr w146, M142))
      fun r143 M142 =>
      obS (K_X2_sign 59 M142) (fun w151 M147 =>
          some (.inr w151, M147))
      fun r148 M147 =>
      nm (msI M147 406 90 ((mI M147 406 90) - 1)) fun M152 =>
      some (.inl v76, M152)
      else none
      else none
      else none
      else none
      else none
      else none
      else none
  else
    if mn M3 ≤ 601024 ∧ ms M3 + 8 ≤ 7293034 then
    nm (mn M3) fun v155 =>
    nm (mnew M3 13 0 8) fun M156 =>
    if ¬ v155 = 0 then
    ob (K_X13_init v155 15 M156) fun r159 M158 =>
    obS (K_X2_sign 40 M158) (fun w166 M162 =>
        some (.inr w166, M162))
    fun r163 M162 =>
    obS (K_X2_ref M162) (fun w171 M167 =>
        some (.inr w171, M167))
    fun r168 M167 =>
    if mk M167 v155 = 13 then
    nm (msR M167 2401 v155 r168) fun M173 =>
    obS (K_X2_sign 44 M173) (fun w178 M174 =>
        some (.inr w178, M174))
    fun r175 M174 =>
    obS (K_X2_ref M174) (fun w183 M179 =>
        some (.inr w183, M179))
    fun r180 M179 =>
    if mk M179 v155 = 13 then
    nm (msR M179 2402 v155 r180) fun M185 =>
    obS (K_X2_sign 41 M185) (fun w190 M186 =>
        some (.inr w190, M186))
    fun r187 M186 =>
    obS (K_X2_sign 59 M186) (fun w195 M191 =>
        some (.inr w195, M191))
    fun r192 M191 =>
    some (.inl v155, M191)
    else none
    else none
    else none
    else none
  else none
def KL_X2_equations_0 (cf_X2_equation : Int32 → CM → Option ((Nat ⊕ Nat) × CM)) : Nat → Nat → Int32 → CM → Option ((Unit ⊕ (Unit ⊕ Nat)) × CM)
  | 0, _, _, _ => none
  | n + 1, x1, x2, M =>
    ob (K_X2_isKey 3 M) fun r2 M1 =>
    if r2 = 0 then
      ob (K_X2_isKey 22 M1) fun r6 M5 =>
      if r6 = 0 then
        if mk M5 (mR M5 411 90) = 10 then
        if mk M5 (mR M5 411 90) = 10 then
        nm (msI M5 1804 (mR M5 411 90) ((mI M5 1804 (mR M5 411 90)) + 1)) fun M11 =>
        if mk M11 (mR M11 411 90) = 10 then
        if mI M11 1804 (mR M11 411 90) ≤ 40 then
          obS (cf_X2_equation x2 M11) (fun w17 M13 =>
              some (.inr (.inr w17), M13))
          fun r14 M13 =>
          if mk M13 x1 = 22 then
          ob (K_J2_add x1 r14 M13) fun r20 M19 =>
          KL_X2_equations_0 cf_X2_equation n x1 x2 M19
          else none
        else
          ob (K_X2_tooMany M11) fun r24 M23 =>
          if mk M23 r24 = 7 then
          some (.inr (.inr r24), M23)
          else none
        else none
        else none
        else none
      else
        some (.inl (), M5)
    else
      some (.inl (), M1)
def KB_X2_equations (cf_X2_equation : Int32 → CM → Option ((Nat ⊕ Nat) × CM)) (x1 : Nat) (x2 : Int32) (M : CM) : Option ((Unit ⊕ Nat) × CM) :=
  obS (KL_X2_equations_0 cf_X2_equation FU x1 x2 M) (fun r35 M32 => some (r35, M32)) fun q31 M32 =>
  some (.inl (), M32)
def KB_X2_ifEquation (cf_X2_equations : Nat → Int32 → CM → Option ((Unit ⊕ Nat) × CM)) (x1 : Int32) (M : CM) : Option ((Nat ⊕ Nat) × CM) :=
  nm (msI M 405 90 ((mI M 405 90) + 1)) fun M1 =>
  obS (K_X2_deeper x1 M1) (fun w6 M2 =>
      some (.inr w6, M2))
  fun r3 M2 =>
  if mn M2 ≤ 601024 ∧ ms M2 + 8 ≤ 7293034 then
  nm (mn M2) fun v8 =>
  nm (mnew M2 13 0 8) fun M9 =>
  if ¬ v8 = 0 then
  ob (K_X13_init v8 21 M9) fun r12 M11 =>
  obS (K_X2_condition M11) (fun w19 M15 =>
      some (.inr w19, M15))
  fun r16 M15 =>
  if mk M15 v8 = 13 then
  nm (msR M15 2401 v8 r16) fun M21 =>
  obS (K_X2_key 17 M21) (fun w26 M22 =>
      some (.inr w26, M22))
  fun r23 M22 =>
  if mk M22 v8 = 13 then
  obS (cf_X2_equations (mR M22 2406 v8) 0 M22) (fun w32 M28 =>
      some (.inr w32, M28))
  fun r29 M28 =>
  ob (K_X2_takeKey 22 M28) fun r34 M33 =>
  if r34 = 0 then
    obS (K_X2_key 3 M33) (fun w41 M37 =>
        some (.inr w41, M37))
    fun r38 M37 =>
    obS (K_X2_sign 59 M37) (fun w46 M42 =>
        some (.inr w46, M42))
    fun r43 M42 =>
    nm (msI M42 406 90 ((mI M42 406 90) - 1)) fun M47 =>
    some (.inl v8, M47)
  else
    if mk M33 v8 = 13 then
    obS (cf_X2_equations (mR M33 2407 v8) 0 M33) (fun w53 M49 =>
        some (.inr w53, M49))
    fun r50 M49 =>
    obS (K_X2_key 3 M49) (fun w58 M54 =>
        some (.inr w58, M54))
    fun r55 M54 =>
    obS (K_X2_sign 59 M54) (fun w63 M59 =>
        some (.inr w63, M59))
    fun r60 M59 =>
    nm (msI M59 406 90 ((mI M59 406 90) - 1)) fun M64 =>
    some (.inl v8, M64)
    else none
  else none
  else none
  else none
  else none
def KG_X2_equation : Nat → (Int32 → CM → Option ((Nat ⊕ Nat) × CM)) × (Nat → Int32 → CM → Option ((Unit ⊕ Nat) × CM)) × (Int32 → CM → Option ((Nat ⊕ Nat) × CM))
  | 0 => (fun _ _ => none, fun _ _ _ => none, fun _ _ => none)
  | d + 1 => (KB_X2_equation (KG_X2_equation d).2.1 (KG_X2_equation d).2.2, KB_X2_equations (KG_X2_equation d).1, KB_X2_ifEquation (KG_X2_equation d).2.1)
def K_X2_equations : Nat → Int32 → CM → Option ((Unit ⊕ Nat) × CM) := (KG_X2_equation 60).2.1
def KL_X2_newModel_58 : Nat → Int32 → CM → Option ((Unit ⊕ (Unit ⊕ Nat)) × CM)
  | 0, _, _ => none
  | n + 1, x1, M =>
    ob (K_X2_isKey 14 M) fun r29 M28 =>
    if r29 = 0 then
      ob (K_X2_isKey 3 M28) fun r33 M32 =>
      if r33 = 0 then
        if mk M32 (mR M32 411 90) = 10 then
        if mk M32 (mR M32 1802 (mR M32 411 90)) = 22 then
        ob (K_J2_size (mR M32 1802 (mR M32 411 90)) M32) fun r39 M38 =>
        if r39 = 20 then
          ob (K_X2_tooMany M38) fun r48 M47 =>
          if mk M47 r48 = 7 then
          some (.inr (.inr r48), M47)
          else none
        else
          obS (K_X2_element M38) (fun w46 M42 =>
              some (.inr (.inr w46), M42))
          fun r43 M42 =>
          KL_X2_newModel_58 n x1 M42
        else none
        else none
      else
        some (.inl (), M32)
    else
      some (.inl (), M28)
def KJ_X2_newModel_102 (x1 : Int32) (M : CM) : Option ((Unit ⊕ Nat) × CM) :=
  ob (K_X2_isKey 14 M) fun r59 M58 =>
  if r59 = 0 then
    obS (K_X2_key 3 M58) (fun w66 M62 =>
        some (.inr w66, M62))
    fun r63 M62 =>
    obS (K_X2_sign 59 M62) (fun w71 M67 =>
        some (.inr w71, M67))
    fun r68 M67 =>
    ob (K_J2_add 97 (mR M67 411 90) M67) fun r73 M72 =>
    some (.inl (), M72)
  else
    if x1 = 0 then
      nm (msI M58 405 90 ((mI M58 405 90) + 1)) fun M76 =>
      if mk M76 (mR M76 411 90) = 10 then
      obS (K_X2_equations (mR M76 1803 (mR M76 411 90)) 1 M76) (fun w82 M78 =>
          some (.inr w82, M78))
      fun r79 M78 =>
      obS (K_X2_key 3 M78) (fun w87 M83 =>
          some (.inr w87, M83))
      fun r84 M83 =>
      obS (K_X2_sign 59 M83) (fun w92 M88 =>
          some (.inr w92, M88))
      fun r89 M88 =>
      ob (K_J2_add 97 (mR M88 411 90) M88) fun r94 M93 =>
      some (.inl (), M93)
      else none
    else
      ob (K_X2_stop M58) fun r98 M97 =>
      if mk M97 r98 = 7 then
      some (.inr r98, M97)
      else none
def KJ_X2_newModel_52 (x1 : Int32) (y0 : Nat) (y1 : Nat) (y2 : Int32) (M : CM) : Option ((Unit ⊕ Nat) × CM) :=
  if y1 = 90 ∧ mk M y1 = 3 then
  obS (K_X2_newName y2 M) (fun w25 M21 =>
      some (.inr w25, M21))
  fun r22 M21 =>
  if mk M21 y0 = 10 then
  nm (msI M21 1800 y0 r22) fun M27 =>
  obS (KL_X2_newModel_58 FU x1 M27) (fun r105 M56 => some (r105, M56)) fun q55 M56 =>
  KJ_X2_newModel_102 x1 M56
  else none
  else none
def K_X2_newModel (x1 : Int32) (M : CM) : Option ((Unit ⊕ Nat) × CM) :=
  if mn M ≤ 601024 ∧ ms M + 5 ≤ 7293034 then
  nm (mn M) fun v2 =>
  nm (mnew M 10 0 5) fun M3 =>
  if ¬ v2 = 0 then
  ob (K_X10_init v2 M3) fun r6 M5 =>
  nm (msR M5 411 90 v2) fun M9 =>
  if mk M9 (mR M9 411 90) = 10 then
  nm (msI M9 1801 (mR M9 411 90) x1) fun M11 =>
  ob (K_J2_size 88 M11) fun r13 M12 =>
  ob (K_J2_size 97 M12) fun r17 M16 =>
  if r13 + r17 = 24 then
    KJ_X2_newModel_52 x1 (mR M11 411 90) 90 1 M16
  else
    KJ_X2_newModel_52 x1 (mR M11 411 90) 90 0 M16
  else none
  else none
  else none
def KL_X2_text_36 : Nat → CM → Option ((Unit ⊕ (Unit ⊕ Nat)) × CM)
  | 0, _ => none
  | n + 1, M =>
    if inb (mI M 405 90) 2001 then
    if mA M 91 (ix (mI M 405 90)) = 4 then
      if ((mI M 9 1) + (mI M 404 90)) - 1 ≤ 6000 then
        some (.inr (.inl ()), M)
      else
        if inb (6000 - (mI M 9 1)) 2001 then
        ob (K_X0_wrong 7 (mA M 94 (ix (6000 - (mI M 9 1)))) M) fun r19 M18 =>
        if mk M18 r19 = 7 then
        some (.inr (.inr r19), M18)
        else none
        else none
    else
      ob (K_X2_takeKey 2 M) fun r25 M24 =>
      if r25 = 0 then
        ob (K_X2_isKey 0 M24) fun r29 M28 =>
        if r29 = 0 then
          ob (K_X2_isKey 1 M28) fun r43 M42 =>
          if r43 = 0 then
            some (.inl (), M42)
          else
            ob (K_X2_isKey 1 M42) fun r47 M46 =>
            nm (msI M46 405 90 ((mI M46 405 90) + 1)) fun M50 =>
            obS (K_X2_newModel r47 M50) (fun w55 M51 =>
                some (.inr (.inr w55), M51))
            fun r52 M51 =>
            KL_X2_text_36 n M51
        else
          ob (K_X2_isKey 1 M28) fun r33 M32 =>
          nm (msI M32 405 90 ((mI M32 405 90) + 1)) fun M36 =>
          obS (K_X2_newModel r33 M36) (fun w41 M37 =>
              some (.inr (.inr w41), M37))
          fun r38 M37 =>
          KL_X2_text_36 n M37
      else
        obS (K_X2_function M24) (fun w62 M58 =>
            some (.inr (.inr w62), M58))
        fun r59 M58 =>
        KL_X2_text_36 n M58
    else none
def K_X2_text (M : CM) : Option ((Unit ⊕ Nat) × CM) :=
  ob (K_J2_clear 96 M) fun r2 M1 =>
  ob (K_J2_clear 97 M1) fun r6 M5 =>
  nm (msI M5 405 90 0) fun M9 =>
  nm (msI M9 406 90 0) fun M10 =>
  nm (msR M10 408 90 0) fun M11 =>
  ob (K_J2_clear 95 M11) fun r13 M12 =>
  obS (KL_X2_text_36 FU M12) (fun r74 M66 => some (r74, M66)) fun q65 M66 =>
  ob (K_X2_stop M66) fun r69 M68 =>
  if mk M68 r69 = 7 then
  some (.inr r69, M68)
  else none
def K_X0_load (M : CM) : Option (Int32 × CM) :=
  ob (K_X2_tokens M) fun r2 M1 =>
  obS (K_X2_text M1) (fun w9 M5 =>
      nm (msI M5 1 1 0) fun M10 =>
      ob (K_X0_fails w9 M10) fun r12 M11 =>
      some (r12, M11))
  fun r6 M5 =>
  nm (msI M5 1 1 0) fun M15 =>
  nm (msI M15 9 1 ((mI M15 9 1) + ((mI M15 404 90) - 1))) fun M16 =>
  ob (K_J2_addAll 88 97 M16) fun r18 M17 =>
  ob (K_J2_addAll 89 96 M17) fun r22 M21 =>
  ob (K_J2_size 88 M21) fun r26 M25 =>
  ob (K_J2_size 89 M25) fun r30 M29 =>
  some (r26 + r30, M29)
def K_X0_newUnknown (x1 : Int32) (x2 : Int32) (x3 : Int32) (M : CM) : Option ((Int32 ⊕ Nat) × CM) :=
  if mI M 57 1 = 180 then
    ob (K_X0_wrong 52 x3 M) fun r2 M1 =>
    if mk M1 r2 = 7 then
    some (.inr r2, M1)
    else none
  else
    if x2 ≤ 3 then
      nm (mI M 57 1) fun v6 =>
      nm (msI M 57 1 ((mI M 57 1) + 1)) fun M7 =>
      if inb v6 180 then
      nm (mwA M7 119 (ix v6) x1) fun M9 =>
      if inb v6 180 then
      nm (mwA M9 120 (ix v6) x2) fun M11 =>
      if inb v6 180 then
      nm (mwA M11 121 (ix v6) (-1)) fun M13 =>
      if inb v6 180 then
      nm (mwA M13 122 (ix v6) (-1)) fun M15 =>
      if inb v6 180 then
      nm (mwA M15 123 (ix v6) 0) fun M17 =>
      some (.inl v6, M17)
      else none
      else none
      else none
      else none
      else none
    else
      ob (K_X0_wrong 52 x3 M) fun r19 M18 =>
      if mk M18 r19 = 7 then
      some (.inr r19, M18)
      else none
def KJ_X0_mark_29 (cf_X0_mark : Nat → Int32 → CM → Option (Unit × CM)) (x1 : Nat) (x2 : Int32) (M : CM) : Option (Unit × CM) :=
  if mk M x1 = 18 then
  ob (cf_X0_mark (mR M 3405 x1) x2 M) fun r4 M3 =>
  if mk M3 x1 = 18 then
  ob (cf_X0_mark (mR M3 3406 x1) x2 M3) fun r9 M8 =>
  if mk M8 x1 = 18 then
  ob (cf_X0_mark (mR M8 3407 x1) x2 M8) fun r14 M13 =>
  some ((), M13)
  else none
  else none
  else none
def KB_X0_mark (cf_X0_mark : Nat → Int32 → CM → Option (Unit × CM)) (x1 : Nat) (x2 : Int32) (M : CM) : Option (Unit × CM) :=
  if x1 = 0 then
    some ((), M)
  else
    if mk M x1 = 18 then
    if mI M 3400 x1 = 17 then
      if mk M x1 = 18 then
      if inb ((180 * x2) + (mI M 3401 x1)) 32400 then
      nm (mwA M 132 (ix ((180 * x2) + (mI M 3401 x1))) (nZ 1)) fun M19 =>
      KJ_X0_mark_29 cf_X0_mark x1 x2 M19
      else none
      else none
    else
      KJ_X0_mark_29 cf_X0_mark x1 x2 M
    else none
def KG_X0_mark : Nat → (Nat → Int32 → CM → Option (Unit × CM))
  | 0 => (fun _ _ _ => none)
  | d + 1 => (KB_X0_mark (KG_X0_mark d))
def K_X0_mark : Nat → Int32 → CM → Option (Unit × CM) := (KG_X0_mark 300)
def KL_X0_newEquation_85 : Nat → Nat → Nat → Int32 → Int32 → CM → Option (Unit × CM)
  | 0, _, _, _, _, _ => none
  | n + 1, x1, x2, x5, x6, M =>
    if 180 ≤ x6 then
      some ((), M)
    else
      if inb ((180 * x5) + x6) 32400 then
      nm (mwA M 132 (ix ((180 * x5) + x6)) (nZ 0)) fun M16 =>
      nm (x6 + 1) fun v17 =>
      KL_X0_newEquation_85 n x1 x2 x5 v17 M16
      else none
def K_X0_newEquation (x1 : Nat) (x2 : Nat) (x3 : Int32) (x4 : Int32) (M : CM) : Option ((Int32 ⊕ Nat) × CM) :=
  if mI M 65 1 = 180 then
    ob (K_X0_wrong 52 x4 M) fun r32 M31 =>
    if mk M31 r32 = 7 then
    some (.inr r32, M31)
    else none
  else
    nm (mI M 65 1) fun v1 =>
    nm (msI M 65 1 ((mI M 65 1) + 1)) fun M2 =>
    if inb v1 180 ∧ (x1 = 0 ∨ mk M2 x1 = 18) then
    nm (mwX M2 126 (ix v1) x1) fun M4 =>
    if inb v1 180 ∧ (x2 = 0 ∨ mk M4 x2 = 18) then
    nm (mwX M4 127 (ix v1) x2) fun M6 =>
    if inb v1 180 then
    nm (mwA M6 128 (ix v1) (nZ 0)) fun M8 =>
    if inb v1 180 then
    nm (mwA M8 129 (ix v1) (-1)) fun M10 =>
    if inb v1 180 then
    nm (mwA M10 130 (ix v1) x3) fun M12 =>
    if inb v1 180 then
    nm (mwA M12 131 (ix v1) (-1)) fun M14 =>
    ob (KL_X0_newEquation_85 FU x1 x2 v1 0 M14) fun q19 M20 =>
    ob (K_X0_mark x1 v1 M20) fun r23 M22 =>
    ob (K_X0_mark x2 v1 M22) fun r27 M26 =>
    some (.inl v1, M26)
    else none
    else none
    else none
    else none
    else none
    else none
def KL_X0_lowerIndex_60 : Nat → Int32 → Int32 → Int32 → Int32 → Int32 → CM → Option ((Unit ⊕ (Unit ⊕ Nat)) × CM)
  | 0, _, _, _, _, _, _ => none
  | n + 1, x1, x2, x3, x4, x5, M =>
    if x4 ≤ x5 then
      some (.inl (), M)
    else
      if inb x5 180 then
      if mA M 138 (ix x5) = 0 then
        nm (x5 + 1) fun v20 =>
        KL_X0_lowerIndex_60 n x1 x2 x3 x4 v20 M
      else
        if inb x5 180 then
        if inb x5 180 then
        obS (K_X0_newUnknown (mA M 119 (ix x5)) ((mA M 120 (ix x5)) + 1) x2 M) (fun w27 M23 =>
            some (.inr (.inr w27), M23))
        fun r24 M23 =>
        if inb x5 180 then
        nm (mwA M23 121 (ix x5) r24) fun M29 =>
        nm (x5 + 1) fun v30 =>
        KL_X0_lowerIndex_60 n x1 x2 x3 x4 v30 M29
        else none
        else none
        else none
      else none
def KL_X0_lowerIndex_120 : Nat → Int32 → Int32 → Int32 → Int32 → Int32 → Int32 → CM → Option ((Unit ⊕ (Unit ⊕ Nat)) × CM)
  | 0, _, _, _, _, _, _, _ => none
  | n + 1, x1, x2, x3, x4, x5, x6, M =>
    if x5 ≤ x6 then
      some (.inl (), M)
    else
      if inb x6 180 then
      if mA M 139 (ix x6) = 0 then
        nm (x6 + 1) fun v39 =>
        KL_X0_lowerIndex_120 n x1 x2 x3 x4 x5 v39 M
      else
        if inb x6 180 then
        obS (K_X0_diff (mX M 126 (ix x6)) M) (fun w45 M41 =>
            some (.inr (.inr w45), M41))
        fun r42 M41 =>
        if inb x6 180 then
        obS (K_X0_diff (mX M41 127 (ix x6)) M41) (fun w51 M47 =>
            some (.inr (.inr w51), M47))
        fun r48 M47 =>
        obS (K_X0_newEquation r42 r48 x6 x2 M47) (fun w56 M52 =>
            some (.inr (.inr w56), M52))
        fun r53 M52 =>
        if inb x6 180 then
        nm (mwA M52 129 (ix x6) r53) fun M58 =>
        nm (x6 + 1) fun v59 =>
        KL_X0_lowerIndex_120 n x1 x2 x3 x4 x5 v59 M58
        else none
        else none
        else none
      else none
def KL_X0_lowerIndex_186 : Nat → Int32 → Int32 → Int32 → Int32 → Int32 → CM → Option (Unit × CM)
  | 0, _, _, _, _, _, _ => none
  | n + 1, x1, x2, x3, x4, x6, M =>
    if x4 ≤ x6 then
      some ((), M)
    else
      if inb x6 180 then
      if mA M 138 (ix x6) = 0 then
        nm (x6 + 1) fun v67 =>
        KL_X0_lowerIndex_186 n x1 x2 x3 x4 v67 M
      else
        if inb x6 180 then
        if inb x6 180 then
        if inb (mA M 122 (ix x6)) 180 then
        if inb (mA M 121 (ix x6)) 180 then
        nm (mwA M 122 (ix (mA M 121 (ix x6))) (mA M 129 (ix (mA M 122 (ix x6))))) fun M72 =>
        nm (x6 + 1) fun v73 =>
        KL_X0_lowerIndex_186 n x1 x2 x3 x4 v73 M72
        else none
        else none
        else none
        else none
      else none
def KL_X0_lowerIndex_42 : Nat → Int32 → Int32 → Int32 → CM → Option ((Unit ⊕ (Unit ⊕ Nat)) × CM)
  | 0, _, _, _, _ => none
  | n + 1, x1, x2, x3, M =>
    ob (K_X0_find_2 x3 0 M) fun r14 M13 =>
    if r14 = 0 then
      nm (mI M13 57 1) fun v17 =>
      obS (KL_X0_lowerIndex_60 FU x1 x2 x3 v17 0 M13) (fun r89 M34 => some (.inr r89, M34)) fun q33 M34 =>
      nm (mI M34 65 1) fun v36 =>
      obS (KL_X0_lowerIndex_120 FU x1 x2 x3 v17 v36 0 M34) (fun r87 M63 => some (.inr r87, M63)) fun q62 M63 =>
      ob (KL_X0_lowerIndex_186 FU x1 x2 x3 v17 0 M63) fun q76 M77 =>
      if inb x3 180 then
      nm (mA M77 129 (ix x3)) fun v80 =>
      ob (K_X0_unmark M77) fun r82 M81 =>
      KL_X0_lowerIndex_42 n x1 x2 v80 M81
      else none
    else
      some (.inl (), M13)
def KL_X0_lowerIndex_11 : Nat → Int32 → Int32 → CM → Option ((Unit ⊕ (Unit ⊕ Nat)) × CM)
  | 0, _, _, _ => none
  | n + 1, x1, x2, M =>
    if x1 ≤ x2 then
      some (.inl (), M)
    else
      if inb x2 180 then
      if mA M 128 (ix x2) = 0 then
        nm (msI M 605 133 x2) fun M8 =>
        ob (K_X0_unmark M8) fun r10 M9 =>
        obS (KL_X0_lowerIndex_42 FU x1 x2 x2 M9) (fun r96 M92 => some (.inr r96, M92)) fun q91 M92 =>
        nm (x2 + 1) fun v94 =>
        KL_X0_lowerIndex_11 n x1 v94 M92
      else
        nm (x2 + 1) fun v97 =>
        KL_X0_lowerIndex_11 n x1 v97 M
      else none
def K_X0_lowerIndex (M : CM) : Option ((Unit ⊕ Nat) × CM) :=
  ob (K_X0_giveNone M) fun r2 M1 =>
  nm (mI M1 35 1) fun v5 =>
  obS (KL_X0_lowerIndex_11 FU v5 0 M1) (fun r104 M101 => some (r104, M101)) fun q100 M101 =>
  some (.inl (), M101)
