set_option maxRecDepth 100000
def L_chainUnit_7 (cf_unit : Int32 → TS → Option (Int64 × TS)) : Nat → Int32 → Int32 → TS → Option (Int32 × TS)
  | 0, _, _, _ => none
  | n + 1, x2, x3, σ =>
    if inb x3 70000 then
    ob (F_isArithmetic (tA σ 121 (ix x3)) σ) fun r4 s3 =>
    if r4 = 0 then
      some (x3, s3)
    else
      if inb (tI s3 171) 70000 then
      nm (tsA s3 170 (ix (tI s3 171)) x3) fun s8 =>
      nm (tsI s8 171 ((tI s8 171) + 1)) fun s9 =>
      if inb x3 70000 then
      nm (tA s9 122 (ix x3)) fun v11 =>
      L_chainUnit_7 cf_unit n x2 v11 s9
      else none
      else none
    else none
def J_chainUnit_225_56 (cf_unit : Int32 → TS → Option (Int64 × TS)) (rec : Int32 → Int64 → TS → Option (Int64 × TS)) (x2 : Int32) (x10 : Int64) (x12 : Int64) (y0 : Int32) (σ : TS) : Option (Int64 × TS) :=
  ob (F_part x10 0 σ) fun r43 s42 =>
  ob (F_part x12 0 s42) fun r47 s46 =>
  ob (F_part x10 1 s46) fun r51 s50 =>
  ob (F_part x12 1 s50) fun r55 s54 =>
  ob (F_part x10 2 s54) fun r59 s58 =>
  ob (F_part x12 2 s58) fun r63 s62 =>
  ob (F_unitFrom (r43 + (y0 * r47)) (r51 + (y0 * r55)) (r59 + (y0 * r63)) s62) fun r67 s66 =>
  rec x2 r67 s66
def J_chainUnit_211_56 (cf_unit : Int32 → TS → Option (Int64 × TS)) (rec : Int32 → Int64 → TS → Option (Int64 × TS)) (x2 : Int32) (x9 : Int32) (x10 : Int64) (y0 : Int64) (σ : TS) : Option (Int64 × TS) :=
  if x9 = 8 then
    J_chainUnit_225_56 cf_unit rec x2 x10 y0 1 σ
  else
    J_chainUnit_225_56 cf_unit rec x2 x10 y0 (-1) σ
def J_chainUnit_189_56 (cf_unit : Int32 → TS → Option (Int64 × TS)) (rec : Int32 → Int64 → TS → Option (Int64 × TS)) (x2 : Int32) (x7 : Int64) (x9 : Int32) (y0 : Int64) (σ : TS) : Option (Int64 × TS) :=
  if lg_cmp x7 (-2) = 0 then
    ob (F_unitFrom 0 0 0 σ) fun r72 s71 =>
    J_chainUnit_211_56 cf_unit rec x2 x9 y0 r72 s71
  else
    J_chainUnit_211_56 cf_unit rec x2 x9 y0 x7 σ
def J_chainUnit_169_56 (cf_unit : Int32 → TS → Option (Int64 × TS)) (rec : Int32 → Int64 → TS → Option (Int64 × TS)) (x2 : Int32) (x4 : Int64) (x7 : Int64) (x9 : Int32) (σ : TS) : Option (Int64 × TS) :=
  if lg_cmp x4 (-2) = 0 then
    ob (F_unitFrom 0 0 0 σ) fun r77 s76 =>
    J_chainUnit_189_56 cf_unit rec x2 x7 x9 r77 s76
  else
    J_chainUnit_189_56 cf_unit rec x2 x7 x9 x4 σ
def L_chainUnit_56 (cf_unit : Int32 → TS → Option (Int64 × TS)) : Nat → Int32 → Int64 → TS → Option (Int64 × TS)
  | 0, _, _, _ => none
  | n + 1, x2, x4, σ =>
    if tI σ 171 ≤ x2 then
      some (x4, σ)
    else
      nm (tsI σ 171 ((tI σ 171) - 1)) fun s20 =>
      if inb (tI s20 171) 70000 then
      nm (tA s20 170 (ix (tI s20 171))) fun v22 =>
      if inb v22 70000 then
      ob (cf_unit (tA s20 123 (ix v22)) s20) fun r25 s24 =>
      if inb v22 70000 then
      nm (tA s24 121 (ix v22)) fun v29 =>
      if v29 = 5 then
        ob (F_alike x4 r25 s24) fun r31 s30 =>
        L_chainUnit_56 cf_unit n x2 r31 s30
      else
        if v29 = 6 then
          ob (F_alike x4 r25 s24) fun r35 s34 =>
          L_chainUnit_56 cf_unit n x2 r35 s34
        else
          if lg_cmp x4 (-1) = 0 then
            ob (F_alike x4 r25 s24) fun r39 s38 =>
            L_chainUnit_56 cf_unit n x2 r39 s38
          else
            if lg_cmp r25 (-1) = 0 then
              ob (F_alike x4 r25 s24) fun r84 s83 =>
              L_chainUnit_56 cf_unit n x2 r84 s83
            else
              if lg_cmp x4 (-2) = 0 then
                if lg_cmp r25 (-2) = 0 then
                  L_chainUnit_56 cf_unit n x2 x4 s24
                else
                  J_chainUnit_169_56 cf_unit (L_chainUnit_56 cf_unit n) x2 x4 r25 v29 s24
              else
                J_chainUnit_169_56 cf_unit (L_chainUnit_56 cf_unit n) x2 x4 r25 v29 s24
      else none
      else none
      else none
def B_chainUnit (cf_unit : Int32 → TS → Option (Int64 × TS)) (x1 : Int32) (σ : TS) : Option (Int64 × TS) :=
  nm (tI σ 171) fun v1 =>
  ob (L_chainUnit_7 cf_unit FU v1 x1 σ) fun q13 s14 =>
  ob (cf_unit q13 s14) fun r17 s16 =>
  ob (L_chainUnit_56 cf_unit FU v1 r17 s16) fun q92 s93 =>
  some (q92, s93)
def B_unit (cf_unit : Int32 → TS → Option (Int64 × TS)) (cf_chainUnit : Int32 → TS → Option (Int64 × TS)) (x1 : Int32) (σ : TS) : Option (Int64 × TS) :=
  if inb x1 70000 then
  if tA σ 121 (ix x1) = 0 then
    some ((-2), σ)
  else
  if tA σ 121 (ix x1) = 1 then
    ob (F_unitFrom 0 1 0 σ) fun r5 s4 =>
    some (r5, s4)
  else
  if tA σ 121 (ix x1) = 2 then
    if inb x1 70000 then
    ob (F_unitOf (tA σ 122 (ix x1)) σ) fun r11 s10 =>
    some (r11, s10)
    else none
  else
  if tA σ 121 (ix x1) = 3 then
    if inb x1 70000 then
    ob (F_unitOf (tA σ 122 (ix x1)) σ) fun r17 s16 =>
    ob (F_part r17 0 s16) fun r21 s20 =>
    ob (F_part r17 1 s20) fun r25 s24 =>
    ob (F_part r17 2 s24) fun r29 s28 =>
    ob (F_unitFrom r21 (r25 - 1) r29 s28) fun r33 s32 =>
    some (r33, s32)
    else none
  else
  if tA σ 121 (ix x1) = 4 then
    if inb x1 70000 then
    ob (F_unitOf (tA σ 122 (ix x1)) σ) fun r39 s38 =>
    some (r39, s38)
    else none
  else
  if tA σ 121 (ix x1) = 5 then
    ob (cf_chainUnit x1 σ) fun r44 s43 =>
    some (r44, s43)
  else
  if tA σ 121 (ix x1) = 6 then
    ob (cf_chainUnit x1 σ) fun r49 s48 =>
    some (r49, s48)
  else
  if tA σ 121 (ix x1) = 7 then
    if inb x1 70000 then
    ob (cf_unit (tA σ 122 (ix x1)) σ) fun r55 s54 =>
    some (r55, s54)
    else none
  else
  if tA σ 121 (ix x1) = 8 then
    ob (cf_chainUnit x1 σ) fun r60 s59 =>
    some (r60, s59)
  else
  if tA σ 121 (ix x1) = 9 then
    ob (cf_chainUnit x1 σ) fun r65 s64 =>
    some (r65, s64)
  else
  if tA σ 121 (ix x1) = 10 then
    if inb x1 70000 then
    ob (cf_unit (tA σ 122 (ix x1)) σ) fun r71 s70 =>
    some (r71, s70)
    else none
  else
  if tA σ 121 (ix x1) = 11 then
    if inb x1 70000 then
    ob (cf_unit (tA σ 122 (ix x1)) σ) fun r77 s76 =>
    if 0 ≤ lg_cmp r77 0 then
      ob (F_part r77 0 s76) fun r81 s80 =>
      if r81 - r81 / 2 * 2 = 0 then
        ob (F_part r77 1 s80) fun r85 s84 =>
        if r85 - r85 / 2 * 2 = 0 then
          ob (F_part r77 2 s84) fun r89 s88 =>
          if r89 - r89 / 2 * 2 = 0 then
            ob (F_part r77 0 s88) fun r93 s92 =>
            ob (F_part r77 1 s92) fun r97 s96 =>
            ob (F_part r77 2 s96) fun r101 s100 =>
            ob (F_unitFrom (r93 / 2) (r97 / 2) (r101 / 2) s100) fun r105 s104 =>
            some (r105, s104)
          else
            some ((-1), s88)
        else
          some ((-1), s84)
      else
        some ((-1), s80)
    else
      some (r77, s76)
    else none
  else
  if tA σ 121 (ix x1) = 12 then
    if inb x1 70000 then
    ob (cf_unit (tA σ 122 (ix x1)) σ) fun r115 s114 =>
    if lg_cmp r115 (-1) = 0 then
      some ((-1), s114)
    else
      some ((-2), s114)
    else none
  else
  if tA σ 121 (ix x1) = 13 then
    if inb x1 70000 then
    ob (cf_unit (tA σ 122 (ix x1)) σ) fun r122 s121 =>
    some (r122, s121)
    else none
  else
  if tA σ 121 (ix x1) = 14 then
    if inb x1 70000 then
    ob (cf_unit (tA σ 122 (ix x1)) σ) fun r128 s127 =>
    if inb x1 70000 then
    ob (cf_unit (tA s127 123 (ix x1)) s127) fun r133 s132 =>
    ob (F_alike r128 r133 s132) fun r137 s136 =>
    some (r137, s136)
    else none
    else none
  else
  if tA σ 121 (ix x1) = 15 then
    if inb x1 70000 then
    ob (cf_unit (tA σ 122 (ix x1)) σ) fun r143 s142 =>
    if inb x1 70000 then
    ob (cf_unit (tA s142 123 (ix x1)) s142) fun r148 s147 =>
    ob (F_alike r143 r148 s147) fun r152 s151 =>
    some (r152, s151)
    else none
    else none
  else
  if tA σ 121 (ix x1) = 16 then
    if inb x1 70000 then
    ob (cf_unit (tA σ 123 (ix x1)) σ) fun r158 s157 =>
    if inb x1 70000 then
    ob (cf_unit (tA s157 124 (ix x1)) s157) fun r163 s162 =>
    ob (F_alike r158 r163 s162) fun r167 s166 =>
    some (r167, s166)
    else none
    else none
  else
  ob (cf_chainUnit x1 σ) fun r171 s170 =>
  some (r171, s170)
  else none
def G_chainUnit : Nat → (Int32 → TS → Option (Int64 × TS)) × (Int32 → TS → Option (Int64 × TS))
  | 0 => (fun _ _ => none, fun _ _ => none)
  | d + 1 => (B_chainUnit (G_chainUnit d).2, B_unit (G_chainUnit d).2 (G_chainUnit d).1)
def F_chainUnit : Int32 → TS → Option (Int64 × TS) := (G_chainUnit 300).1
def F_unit : Int32 → TS → Option (Int64 × TS) := (G_chainUnit 300).2
def J_hasDer_91_2 (cf_hasDer : Int32 → Int32 → TS → Option (Int32 × TS)) (rec : Int32 → Int32 → TS → Option ((Unit ⊕ Int32) × TS)) (x2 : Int32) (x3 : Int32) (σ : TS) : Option ((Unit ⊕ Int32) × TS) :=
  if inb x3 70000 then
  ob (cf_hasDer (tA σ 123 (ix x3)) x2 σ) fun r5 s4 =>
  if r5 = 0 then
    if inb x3 70000 then
    nm (tA s4 122 (ix x3)) fun v9 =>
    rec x2 v9 s4
    else none
  else
    some (.inr 1, s4)
  else none
def L_hasDer_2 (cf_hasDer : Int32 → Int32 → TS → Option (Int32 × TS)) : Nat → Int32 → Int32 → TS → Option ((Unit ⊕ Int32) × TS)
  | 0, _, _, _ => none
  | n + 1, x2, x3, σ =>
    if x3 = 0 then
      some (.inl (), σ)
    else
      if inb x3 70000 then
      nm (tA σ 121 (ix x3)) fun v2 =>
      if v2 = 3 then
        if inb x3 70000 then
        if tA σ 122 (ix x3) = x2 then
          some (.inr 1, σ)
        else
          some (.inr 0, σ)
        else none
      else
        if v2 = 5 then
          J_hasDer_91_2 cf_hasDer (L_hasDer_2 cf_hasDer n) x2 x3 σ
        else
          if v2 = 6 then
            J_hasDer_91_2 cf_hasDer (L_hasDer_2 cf_hasDer n) x2 x3 σ
          else
            if v2 = 8 then
              J_hasDer_91_2 cf_hasDer (L_hasDer_2 cf_hasDer n) x2 x3 σ
            else
              if v2 = 9 then
                J_hasDer_91_2 cf_hasDer (L_hasDer_2 cf_hasDer n) x2 x3 σ
              else
                if v2 = 14 then
                  J_hasDer_91_2 cf_hasDer (L_hasDer_2 cf_hasDer n) x2 x3 σ
                else
                  if v2 = 15 then
                    J_hasDer_91_2 cf_hasDer (L_hasDer_2 cf_hasDer n) x2 x3 σ
                  else
                    if v2 = 21 then
                      J_hasDer_91_2 cf_hasDer (L_hasDer_2 cf_hasDer n) x2 x3 σ
                    else
                      if v2 = 22 then
                        J_hasDer_91_2 cf_hasDer (L_hasDer_2 cf_hasDer n) x2 x3 σ
                      else
                        if v2 = 7 then
                          if inb x3 70000 then
                          nm (tA σ 122 (ix x3)) fun v12 =>
                          L_hasDer_2 cf_hasDer n x2 v12 σ
                          else none
                        else
                          if v2 = 10 then
                            if inb x3 70000 then
                            nm (tA σ 122 (ix x3)) fun v14 =>
                            L_hasDer_2 cf_hasDer n x2 v14 σ
                            else none
                          else
                            if v2 = 11 then
                              if inb x3 70000 then
                              nm (tA σ 122 (ix x3)) fun v16 =>
                              L_hasDer_2 cf_hasDer n x2 v16 σ
                              else none
                            else
                              if v2 = 12 then
                                if inb x3 70000 then
                                nm (tA σ 122 (ix x3)) fun v18 =>
                                L_hasDer_2 cf_hasDer n x2 v18 σ
                                else none
                              else
                                if v2 = 13 then
                                  if inb x3 70000 then
                                  nm (tA σ 122 (ix x3)) fun v20 =>
                                  L_hasDer_2 cf_hasDer n x2 v20 σ
                                  else none
                                else
                                  if v2 = 23 then
                                    if inb x3 70000 then
                                    nm (tA σ 122 (ix x3)) fun v46 =>
                                    L_hasDer_2 cf_hasDer n x2 v46 σ
                                    else none
                                  else
                                    if v2 = 16 then
                                      if inb x3 70000 then
                                      ob (cf_hasDer (tA σ 122 (ix x3)) x2 σ) fun r32 s31 =>
                                      if r32 = 0 then
                                        if inb x3 70000 then
                                        ob (cf_hasDer (tA s31 123 (ix x3)) x2 s31) fun r37 s36 =>
                                        if r37 = 0 then
                                          if inb x3 70000 then
                                          nm (tA s36 124 (ix x3)) fun v41 =>
                                          L_hasDer_2 cf_hasDer n x2 v41 s36
                                          else none
                                        else
                                          some (.inr 1, s36)
                                        else none
                                      else
                                        some (.inr 1, s31)
                                      else none
                                    else
                                      if v2 = 20 then
                                        if inb x3 70000 then
                                        ob (cf_hasDer (tA σ 123 (ix x3)) x2 σ) fun r23 s22 =>
                                        if r23 = 0 then
                                          if inb x3 70000 then
                                          nm (tA s22 124 (ix x3)) fun v27 =>
                                          L_hasDer_2 cf_hasDer n x2 v27 s22
                                          else none
                                        else
                                          some (.inr 1, s22)
                                        else none
                                      else
                                        some (.inr 0, σ)
      else none
def B_hasDer (cf_hasDer : Int32 → Int32 → TS → Option (Int32 × TS)) (x1 : Int32) (x2 : Int32) (σ : TS) : Option (Int32 × TS) :=
  obS (L_hasDer_2 cf_hasDer FU x2 x1 σ) (fun r69 s66 => some (r69, s66)) fun q65 s66 =>
  some (0, s66)
def G_hasDer : Nat → (Int32 → Int32 → TS → Option (Int32 × TS))
  | 0 => (fun _ _ _ => none)
  | d + 1 => (B_hasDer (G_hasDer d))
def F_hasDer : Int32 → Int32 → TS → Option (Int32 × TS) := (G_hasDer 300)
def L_isDerived_2 : Nat → Int32 → Int32 → TS → Option ((Unit ⊕ Int32) × TS)
  | 0, _, _, _ => none
  | n + 1, x1, x2, σ =>
    if tI σ 143 ≤ x2 then
      some (.inl (), σ)
    else
      if inb x2 400 then
      ob (F_hasDer (tA σ 141 (ix x2)) x1 σ) fun r3 s2 =>
      if r3 = 0 then
        if inb x2 400 then
        ob (F_hasDer (tA s2 142 (ix x2)) x1 s2) fun r8 s7 =>
        if r8 = 0 then
          nm (x2 + 1) fun v11 =>
          L_isDerived_2 n x1 v11 s7
        else
          some (.inr 1, s7)
        else none
      else
        some (.inr 1, s2)
      else none
def F_isDerived (x1 : Int32) (σ : TS) : Option (Int32 × TS) :=
  obS (L_isDerived_2 FU x1 0 σ) (fun r19 s16 => some (r19, s16)) fun q15 s16 =>
  some (0, s16)
def L_checkActions_2 : Nat → Int32 → TS → Option (Unit × TS)
  | 0, _, _ => none
  | n + 1, x1, σ =>
    if tI σ 152 ≤ x1 then
      some ((), σ)
    else
      if inb x1 200 then
      if tA σ 149 (ix x1) = 7 then
        if inb x1 200 then
        ob (F_isDerived (tA σ 150 (ix x1)) σ) fun r5 s4 =>
        if r5 = 0 then
          ob (F_bad 30 0 s4) fun r10 s9 =>
          nm (x1 + 1) fun v13 =>
          L_checkActions_2 n v13 s9
        else
          nm (x1 + 1) fun v8 =>
          L_checkActions_2 n v8 s4
        else none
      else
        nm (x1 + 1) fun v2 =>
        L_checkActions_2 n v2 σ
      else none
def L_checkActions_90 : Nat → Int32 → Int32 → Int32 → Int32 → TS → Option (Int32 × TS)
  | 0, _, _, _, _, _ => none
  | n + 1, x1, x2, x3, x4, σ =>
    if tI σ 152 ≤ x4 then
      some (x3, σ)
    else
      if x3 = 0 then
        if inb x4 200 then
        if tA σ 149 (ix x4) = 6 then
          if inb x4 200 then
          if tA σ 150 (ix x4) = x1 then
            nm (x4 + 1) fun v27 =>
            L_checkActions_90 n x1 x2 1 v27 σ
          else
            nm (x4 + 1) fun v26 =>
            L_checkActions_90 n x1 x2 0 v26 σ
          else none
        else
          nm (x4 + 1) fun v24 =>
          L_checkActions_90 n x1 x2 0 v24 σ
        else none
      else
        nm (x4 + 1) fun v22 =>
        L_checkActions_90 n x1 x2 1 v22 σ
def J_checkActions_84_49 (rec : Int32 → TS → Option (Unit × TS)) (x1 : Int32) (y0 : Int32) (σ : TS) : Option (Unit × TS) :=
  ob (L_checkActions_90 FU x1 y0 0 0 σ) fun q32 s33 =>
  if y0 = 0 then
    ob (F_bad 30 0 s33) fun r37 s36 =>
    nm (x1 + 1) fun v40 =>
    rec v40 s36
  else
    if q32 = 0 then
      ob (F_bad 30 0 s33) fun r43 s42 =>
      nm (x1 + 1) fun v46 =>
      rec v46 s42
    else
      nm (x1 + 1) fun v41 =>
      rec v41 s33
def L_checkActions_49 : Nat → Int32 → TS → Option (Unit × TS)
  | 0, _, _ => none
  | n + 1, x1, σ =>
    if tI σ 107 ≤ x1 then
      some ((), σ)
    else
      if inb x1 96 then
      if tA σ 94 (ix x1) = 2 then
        if inb x1 96 then
        if tA σ 100 (ix x1) = 0 then
          J_checkActions_84_49 (L_checkActions_49 n) x1 1 σ
        else
          J_checkActions_84_49 (L_checkActions_49 n) x1 0 σ
        else none
      else
        nm (x1 + 1) fun v51 =>
        L_checkActions_49 n v51 σ
      else none
def F_checkActions (σ : TS) : Option (Unit × TS) :=
  ob (L_checkActions_2 FU 0 σ) fun q17 s18 =>
  ob (L_checkActions_49 FU 0 s18) fun q54 s55 =>
  some ((), s55)
def L_unmark_2 : Nat → Int32 → TS → Option (Unit × TS)
  | 0, _, _ => none
  | n + 1, x1, σ =>
    if 200 ≤ x1 then
      some ((), σ)
    else
      if inb x1 200 then
      nm (tsA σ 199 (ix x1) (nZ 0)) fun s2 =>
      nm (x1 + 1) fun v3 =>
      L_unmark_2 n v3 s2
      else none
def L_unmark_24 : Nat → Int32 → TS → Option (Unit × TS)
  | 0, _, _ => none
  | n + 1, x1, σ =>
    if 400 ≤ x1 then
      some ((), σ)
    else
      if inb x1 400 then
      nm (tsA σ 200 (ix x1) (nZ 0)) fun s9 =>
      nm (x1 + 1) fun v10 =>
      L_unmark_24 n v10 s9
      else none
def F_unmark (σ : TS) : Option (Unit × TS) :=
  ob (L_unmark_2 FU 0 σ) fun q5 s6 =>
  ob (L_unmark_24 FU 0 s6) fun q12 s13 =>
  some ((), s13)
def L_chooseStates_7 : Nat → Int32 → TS → Option (Unit × TS)
  | 0, _, _ => none
  | n + 1, x1, σ =>
    if tI σ 197 ≤ x1 then
      some ((), σ)
    else
      if inb x1 200 then
      if inb x1 200 then
      nm (tsA σ 193 (ix x1) (tA σ 191 (ix x1))) fun s4 =>
      if inb x1 200 then
      nm (tsA s4 191 (ix x1) (-1)) fun s6 =>
      nm (x1 + 1) fun v7 =>
      L_chooseStates_7 n v7 s6
      else none
      else none
      else none
def L_chooseStates_42 : Nat → Int32 → TS → Option (Unit × TS)
  | 0, _, _ => none
  | n + 1, x1, σ =>
    if tI σ 143 ≤ x1 then
      some ((), σ)
    else
      ob (F_isBad σ) fun r13 s12 =>
      if r13 = 0 then
        if inb x1 400 then
        if tA s12 180 (ix x1) = 0 then
          if inb x1 400 then
          if 0 ≤ tA s12 194 (ix x1) then
            ob (F_unmark s12) fun r21 s20 =>
            ob (F_attempt x1 s20) fun r25 s24 =>
            if r25 = 0 then
              ob (F_bad 53 x1 s24) fun r30 s29 =>
              nm (x1 + 1) fun v33 =>
              L_chooseStates_42 n v33 s29
            else
              nm (x1 + 1) fun v28 =>
              L_chooseStates_42 n v28 s24
          else
            nm (x1 + 1) fun v35 =>
            L_chooseStates_42 n v35 s12
          else none
        else
          nm (x1 + 1) fun v18 =>
          L_chooseStates_42 n v18 s12
        else none
      else
        some ((), s12)
def J_chooseStates_155_115 (rec : Int32 → TS → Option (Unit × TS)) (x1 : Int32) (y1 : Int32) (y2 : Int32) (σ : TS) : Option (Unit × TS) :=
  if inb y1 200 then
  nm (tsA σ 192 (ix y1) y2) fun s48 =>
  if inb x1 200 then
  if tA s48 192 (ix x1) = 2 then
    if inb (tI s48 198) 200 then
    nm (tsA s48 207 (ix (tI s48 198)) x1) fun s56 =>
    nm (tsI s56 198 ((tI s56 198) + 1)) fun s57 =>
    if inb x1 200 then
    if tA s57 192 (ix x1) = 1 then
      nm (tsI s57 206 ((tI s57 206) + 1)) fun s60 =>
      nm (x1 + 1) fun v61 =>
      rec v61 s60
    else
      nm (x1 + 1) fun v59 =>
      rec v59 s57
    else none
    else none
  else
    if inb x1 200 then
    if tA s48 192 (ix x1) = 1 then
      nm (tsI s48 206 ((tI s48 206) + 1)) fun s52 =>
      nm (x1 + 1) fun v53 =>
      rec v53 s52
    else
      nm (x1 + 1) fun v51 =>
      rec v51 s48
    else none
  else none
  else none
def L_chooseStates_115 : Nat → Int32 → TS → Option (Unit × TS)
  | 0, _, _ => none
  | n + 1, x1, σ =>
    if tI σ 197 ≤ x1 then
      some ((), σ)
    else
      if inb x1 200 then
      if 0 ≤ tA σ 189 (ix x1) then
        if inb x1 200 then
        if tA σ 191 (ix x1) < 0 then
          J_chooseStates_155_115 (L_chooseStates_115 n) x1 x1 2 σ
        else
          J_chooseStates_155_115 (L_chooseStates_115 n) x1 x1 1 σ
        else none
      else
        J_chooseStates_155_115 (L_chooseStates_115 n) x1 x1 0 σ
      else none
def J_chooseStates_103 (σ : TS) : Option (Unit × TS) :=
  nm (tsI σ 198 0) fun s43 =>
  nm (tsI s43 206 0) fun s44 =>
  ob (L_chooseStates_115 FU 0 s44) fun q67 s68 =>
  some ((), s68)
def F_chooseStates (σ : TS) : Option (Unit × TS) :=
  nm (tsI σ 205 1) fun s1 =>
  ob (L_chooseStates_7 FU 0 s1) fun q9 s10 =>
  ob (L_chooseStates_42 FU 0 s10) fun q40 s41 =>
  J_chooseStates_103 s41
def L_classOf_2 : Nat → Int64 → Int32 → TS → Option ((Unit ⊕ Int32) × TS)
  | 0, _, _, _ => none
  | n + 1, x1, x3, σ =>
    if tI σ 49 ≤ x3 then
      some (.inl (), σ)
    else
      if inb x3 24 then
      if lg_cmp (tB σ 41 (ix x3)) x1 = 0 then
        some (.inr x3, σ)
      else
        nm (x3 + 1) fun v2 =>
        L_classOf_2 n x1 v2 σ
      else none
def F_classOf (x1 : Int64) (σ : TS) : Option (Int32 × TS) :=
  obS (L_classOf_2 FU x1 0 σ) (fun r9 s6 => some (r9, s6)) fun q5 s6 =>
  some ((-1), s6)
def L_classFor_19 : Nat → Int32 → Int32 → Int64 → Int32 → Int32 → TS → Option (Int32 × TS)
  | 0, _, _, _, _, _, _ => none
  | n + 1, x1, x2, x4, x6, x7, σ =>
    if inb x2 200 then
    if inb x2 200 then
    if (tA σ 78 (ix x2)) + (tA σ 79 (ix x2)) ≤ x7 then
      some (x6, σ)
    else
      if x6 = 0 then
        if inb x7 40000 then
        if 0 ≤ tA σ 91 (ix x7) then
          nm (x7 + 1) fun v8 =>
          L_classFor_19 n x1 x2 x4 x6 v8 σ
        else
          if inb x7 40000 then
          if inb (tA σ 90 (ix x7)) 2500 then
          if inb x1 481 then
          if lg_cmp (tB σ 63 (ix (tA σ 90 (ix x7)))) (tB σ 50 (ix x1)) = 0 then
            if inb x7 40000 then
            nm (tA σ 90 (ix x7)) fun v14 =>
            nm (x7 + 1) fun v15 =>
            L_classFor_19 n x1 x2 x4 v14 v15 σ
            else none
          else
            nm (x7 + 1) fun v12 =>
            L_classFor_19 n x1 x2 x4 x6 v12 σ
          else none
          else none
          else none
        else none
      else
        some (x6, σ)
    else none
    else none
def L_classFor_118 : Nat → Int32 → Int64 → Int32 → Int32 → Int32 → TS → Option (Int32 × TS)
  | 0, _, _, _, _, _, _ => none
  | n + 1, x1, x4, x6, x7, x8, σ =>
    if x8 = 0 then
      some (x6, σ)
    else
      if x6 = 0 then
        if inb x8 2500 then
        if tA σ 62 (ix x8) = 0 then
          if inb x8 2500 then
          nm (tA σ 61 (ix x8)) fun v29 =>
          L_classFor_118 n x1 x4 x6 x7 v29 σ
          else none
        else
          if inb x8 2500 then
          if inb x1 481 then
          if lg_cmp (tB σ 63 (ix x8)) (tB σ 50 (ix x1)) = 0 then
            if inb x8 2500 then
            nm (tA σ 61 (ix x8)) fun v35 =>
            L_classFor_118 n x1 x4 x8 x7 v35 σ
            else none
          else
            if inb x8 2500 then
            nm (tA σ 61 (ix x8)) fun v33 =>
            L_classFor_118 n x1 x4 x6 x7 v33 σ
            else none
          else none
          else none
        else none
      else
        some (x6, σ)
def L_classFor_95 : Nat → Int32 → Int64 → Int32 → Int32 → TS → Option (Int32 × TS)
  | 0, _, _, _, _, _ => none
  | n + 1, x1, x4, x6, x7, σ =>
    if tI σ 114 ≤ x7 then
      some (x6, σ)
    else
      if x6 = 0 then
        if inb x7 200 then
        nm (tA σ 112 (ix x7)) fun v25 =>
        ob (L_classFor_118 FU x1 x4 x6 x7 v25 σ) fun q40 s41 =>
        nm (x7 + 1) fun v43 =>
        L_classFor_95 n x1 x4 q40 v43 s41
        else none
      else
        some (x6, σ)
def J_classFor_177 (x1 : Int32) (x4 : Int64) (x6 : Int32) (σ : TS) : Option (Int32 × TS) :=
  ob (F_classOf x4 σ) fun r51 s50 =>
  if 0 ≤ r51 then
    if x6 = 0 then
      some (r51, s50)
    else
      if inb x6 2500 then
      ob (F_classOf (tB s50 64 (ix x6)) s50) fun r56 s55 =>
      if inb x1 481 then
      if (tA s55 52 (ix x1)) &&& 32 = 0 then
        ob (F_bad 22 0 s55) fun r61 s60 =>
        some ((-1), s60)
      else
        if r56 < 0 then
          ob (F_bad 22 0 s55) fun r65 s64 =>
          some ((-1), s64)
        else
          if inb r56 24 then
          if inb r51 24 then
          if tA s55 44 (ix r56) = tA s55 44 (ix r51) then
            some (r56, s55)
          else
            ob (F_bad 22 0 s55) fun r71 s70 =>
            some ((-1), s70)
          else none
          else none
      else none
      else none
  else
    ob (F_bad 20 0 s50) fun r79 s78 =>
    some ((-1), s78)
def J_classFor_89 (x1 : Int32) (x4 : Int64) (x6 : Int32) (σ : TS) : Option (Int32 × TS) :=
  nm (tI σ 113) fun v23 =>
  ob (L_classFor_95 FU x1 x4 x6 v23 σ) fun q47 s48 =>
  J_classFor_177 x1 x4 q47 s48
def F_classFor (x1 : Int32) (x2 : Int32) (x3 : Int32) (σ : TS) : Option (Int32 × TS) :=
  if inb x1 481 then
  nm (tB σ 51 (ix x1)) fun v2 =>
  if inb x2 200 then
  nm (tA σ 78 (ix x2)) fun v4 =>
  ob (L_classFor_19 FU x1 x2 v2 0 v4 σ) fun q20 s21 =>
  J_classFor_89 x1 v2 q20 s21
  else none
  else none
def F_faceOf (x1 : Int32) (x2 : Int32) (σ : TS) : Option (Int32 × TS) :=
  ob (F_resolve x1 x2 σ) fun r2 s1 =>
  ob (F_isBad s1) fun r6 s5 =>
  if r6 = 0 then
    if tI s5 118 < 0 then
      ob (F_bad 26 0 s5) fun r10 s9 =>
      some ((-1), s9)
    else
      if 0 ≤ tI s5 119 then
        ob (F_bad 26 0 s5) fun r14 s13 =>
        some ((-1), s13)
      else
        if inb (tI s5 118) 200 then
        if inb (tA s5 74 (ix (tI s5 118))) 24 then
        if tA s5 44 (ix (tA s5 74 (ix (tI s5 118)))) = 1 then
          if inb (tI s5 118) 200 then
          if tA s5 75 (ix (tI s5 118)) = x2 then
            some (2 * (tI s5 118), s5)
          else
            if inb (tI s5 118) 200 then
            if tA s5 75 (ix (tI s5 118)) ≤ 0 then
              ob (F_bad 26 0 s5) fun r22 s21 =>
              some ((-1), s21)
            else
              if inb (tI s5 118) 200 then
              if inb (tA s5 75 (ix (tI s5 118))) 200 then
              if tA s5 75 (ix (tA s5 75 (ix (tI s5 118)))) = x2 then
                some ((2 * (tI s5 118)) + 1, s5)
              else
                ob (F_bad 26 0 s5) fun r28 s27 =>
                some ((-1), s27)
              else none
              else none
            else none
          else none
        else
          ob (F_bad 26 0 s5) fun r35 s34 =>
          some ((-1), s34)
        else none
        else none
  else
    some ((-1), s5)
def L_headOf_2 : Nat → Int32 → TS → Option (Int32 × TS)
  | 0, _, _ => none
  | n + 1, x2, σ =>
    if inb x2 400 then
    if tA σ 155 (ix x2) = x2 then
      some (x2, σ)
    else
      if inb x2 400 then
      nm (tA σ 155 (ix x2)) fun v3 =>
      L_headOf_2 n v3 σ
      else none
    else none
def F_headOf (x1 : Int32) (σ : TS) : Option (Int32 × TS) :=
  ob (L_headOf_2 FU x1 σ) fun q5 s6 =>
  some (q5, s6)
def J_connect_25 (x4 : Int32) (y0 : Int32) (σ : TS) : Option (Unit × TS) :=
  ob (F_isBad σ) fun r14 s13 =>
  if r14 = 0 then
    if x4 = y0 then
      ob (F_bad 32 0 s13) fun r18 s17 =>
      some ((), s17)
    else
      if inb (x4 / 2) 200 then
      if inb (y0 / 2) 200 then
      if tA s13 74 (ix (x4 / 2)) = tA s13 74 (ix (y0 / 2)) then
        ob (F_headOf x4 s13) fun r24 s23 =>
        ob (F_headOf y0 s23) fun r28 s27 =>
        if inb (mmax r24 r28) 400 then
        nm (tsA s27 155 (ix (mmax r24 r28)) (mmin r24 r28)) fun s32 =>
        some ((), s32)
        else none
      else
        ob (F_bad 32 0 s13) fun r34 s33 =>
        some ((), s33)
      else none
      else none
  else
    some ((), s13)
def F_connect (x1 : Int32) (x2 : Int32) (x3 : Int32) (σ : TS) : Option (Unit × TS) :=
  ob (F_faceOf x1 x3 σ) fun r2 s1 =>
  ob (F_isBad s1) fun r6 s5 =>
  if r6 = 0 then
    ob (F_faceOf x2 x3 s5) fun r10 s9 =>
    J_connect_25 r2 r10 s9
  else
    J_connect_25 r2 (-1) s5
def F_truth (x1 : Int32) (x2 : Int32) (σ : TS) : Option (Int32 × TS) :=
  nm (tI σ 129) fun v2 =>
  nm (tI σ 138) fun v4 =>
  nm (tsI σ 129 0) fun s5 =>
  nm (tsI s5 131 0) fun s6 =>
  nm (tsI s6 138 1) fun s7 =>
  nm (tI s7 126) fun v8 =>
  ob (F_build x1 x2 0 1 s7) fun r10 s9 =>
  nm (tsI s9 138 v4) fun s13 =>
  nm (tsI s13 129 v2) fun s14 =>
  nm (tI s14 126) fun v15 =>
  ob (F_isBad s14) fun r17 s16 =>
  if r17 = 0 then
    ob (F_holds r10 0 s16) fun r23 s22 =>
    if r23 = 0 then
      if tI s22 126 = v15 then
        nm (tsI s22 126 v8) fun s26 =>
        some (0, s26)
      else
        some (0, s22)
    else
      if tI s22 126 = v15 then
        nm (tsI s22 126 v8) fun s28 =>
        some (1, s28)
      else
        some (1, s22)
  else
    if tI s16 126 = v15 then
      nm (tsI s16 126 v8) fun s20 =>
      some (0, s20)
    else
      some (0, s16)
def J_when_229_69 (rec : Int32 → Int32 → Int32 → TS → Option ((Unit ⊕ Unit) × TS)) (x2 : Int32) (x3 : Int32) (x4 : Int32) (x5 : Int32) (σ : TS) : Option ((Unit ⊕ Unit) × TS) :=
  if inb x4 3000 then
  ob (F_build (tA σ 68 (ix x4)) x2 0 1 σ) fun r31 s30 =>
  ob (F_isBad s30) fun r35 s34 =>
  if r35 = 0 then
    if inb x4 3000 then
    if inb (tI s34 152) 200 then
    nm (tsA s34 149 (ix (tI s34 152)) (tA s34 66 (ix x4))) fun s40 =>
    if inb (tI s40 152) 200 then
    nm (tsA s40 150 (ix (tI s40 152)) x5) fun s42 =>
    if inb (tI s42 152) 200 then
    nm (tsA s42 151 (ix (tI s42 152)) r31) fun s44 =>
    nm (tsI s44 152 ((tI s44 152) + 1)) fun s45 =>
    if inb x4 3000 then
    nm (tA s45 70 (ix x4)) fun v47 =>
    rec x2 x3 v47 s45
    else none
    else none
    else none
    else none
    else none
  else
    some (.inr (), s34)
  else none
def J_when_200_69 (rec : Int32 → Int32 → Int32 → TS → Option ((Unit ⊕ Unit) × TS)) (x2 : Int32) (x3 : Int32) (x4 : Int32) (x5 : Int32) (σ : TS) : Option ((Unit ⊕ Unit) × TS) :=
  if inb x4 3000 then
  if tA σ 66 (ix x4) = 7 then
    if inb x5 96 then
    if tA σ 94 (ix x5) = 0 then
      J_when_229_69 rec x2 x3 x4 x5 σ
    else
      ob (F_bad 30 0 σ) fun r51 s50 =>
      J_when_229_69 rec x2 x3 x4 x5 s50
    else none
  else
    J_when_229_69 rec x2 x3 x4 x5 σ
  else none
def L_when_154 : Nat → Int32 → Int32 → Int32 → Int32 → Int32 → TS → Option (Unit × TS)
  | 0, _, _, _, _, _, _ => none
  | n + 1, x2, x3, x4, x5, x6, σ =>
    if tI σ 152 ≤ x6 then
      some ((), σ)
    else
      if inb x6 200 then
      if tA σ 149 (ix x6) = 6 then
        if inb x6 200 then
        if tA σ 150 (ix x6) = x5 then
          ob (F_bad 30 0 σ) fun r62 s61 =>
          nm (x6 + 1) fun v65 =>
          L_when_154 n x2 x3 x4 x5 v65 s61
        else
          nm (x6 + 1) fun v60 =>
          L_when_154 n x2 x3 x4 x5 v60 σ
        else none
      else
        nm (x6 + 1) fun v58 =>
        L_when_154 n x2 x3 x4 x5 v58 σ
      else none
def J_when_151_69 (rec : Int32 → Int32 → Int32 → TS → Option ((Unit ⊕ Unit) × TS)) (x2 : Int32) (x3 : Int32) (x4 : Int32) (x5 : Int32) (σ : TS) : Option ((Unit ⊕ Unit) × TS) :=
  ob (L_when_154 FU x2 x3 x4 x5 0 σ) fun q69 s70 =>
  J_when_200_69 rec x2 x3 x4 x5 s70
def L_when_69 : Nat → Int32 → Int32 → Int32 → TS → Option ((Unit ⊕ Unit) × TS)
  | 0, _, _, _, _ => none
  | n + 1, x2, x3, x4, σ =>
    if x4 = 0 then
      some (.inl (), σ)
    else
      ob (F_isBad σ) fun r15 s14 =>
      if r15 = 0 then
        if tI s14 152 = 200 then
          ob (F_bad 24 0 s14) fun r81 s80 =>
          some (.inr (), s80)
        else
          if inb x4 3000 then
          ob (F_variableOf (tA s14 67 (ix x4)) x2 s14) fun r20 s19 =>
          ob (F_isBad s19) fun r24 s23 =>
          if r24 = 0 then
            if inb x4 3000 then
            if tA s23 66 (ix x4) = 6 then
              if inb r20 96 then
              if tA s23 94 (ix r20) = 2 then
                J_when_151_69 (L_when_69 n) x2 x3 x4 r20 s23
              else
                ob (F_bad 30 0 s23) fun r74 s73 =>
                J_when_151_69 (L_when_69 n) x2 x3 x4 r20 s73
              else none
            else
              J_when_200_69 (L_when_69 n) x2 x3 x4 r20 s23
            else none
          else
            some (.inr (), s23)
          else none
      else
        some (.inl (), s14)
def F_when (x1 : Int32) (x2 : Int32) (σ : TS) : Option (Unit × TS) :=
  if tI σ 148 = 12 then
    ob (F_bad 24 0 σ) fun r96 s95 =>
    some ((), s95)
  else
    nm (tI σ 148) fun v1 =>
    nm (tsI σ 148 ((tI σ 148) + 1)) fun s2 =>
    if inb x1 3000 then
    ob (F_build (tA s2 67 (ix x1)) x2 0 1 s2) fun r5 s4 =>
    if inb v1 12 then
    nm (tsA s4 145 (ix v1) r5) fun s9 =>
    if inb v1 12 then
    nm (tsA s9 146 (ix v1) (tI s9 152)) fun s11 =>
    if inb x1 3000 then
    nm (tA s11 68 (ix x1)) fun v13 =>
    obS (L_when_69 FU x2 v1 v13 s11) (fun r94 s88 => some (r94, s88)) fun q87 s88 =>
    if inb v1 12 then
    if inb v1 12 then
    nm (tsA s88 147 (ix v1) ((tI s88 152) - (tA s88 146 (ix v1)))) fun s92 =>
    some ((), s92)
    else none
    else none
    else none
    else none
    else none
    else none
def L_equationsOf_113 (cf_equationsOf : Int32 → Int32 → TS → Option (Unit × TS)) : Nat → Int32 → Int32 → Int32 → TS → Option (Unit × TS)
  | 0, _, _, _, _ => none
  | n + 1, x2, x3, x4, σ =>
    if inb x3 3000 then
    if tA σ 69 (ix x3) < x4 then
      some ((), σ)
    else
      ob (F_isBad σ) fun r37 s36 =>
      if r37 = 0 then
        nm (tsI s36 133 ((tI s36 133) + 1)) fun s40 =>
        if tI s40 133 ≤ 4000 then
          if inb x3 3000 then
          if inb (tI s40 117) 20 then
          nm (tsB s40 115 (ix (tI s40 117)) (tB s40 71 (ix x3))) fun s43 =>
          if inb (tI s43 117) 20 then
          nm (tsA s43 116 (ix (tI s43 117)) x4) fun s45 =>
          nm (tsI s45 117 ((tI s45 117) + 1)) fun s46 =>
          if inb x3 3000 then
          ob (cf_equationsOf (tA s46 67 (ix x3)) x2 s46) fun r49 s48 =>
          nm (tsI s48 117 ((tI s48 117) - 1)) fun s52 =>
          nm (x4 + 1) fun v53 =>
          L_equationsOf_113 cf_equationsOf n x2 x3 v53 s52
          else none
          else none
          else none
          else none
        else
          ob (F_bad 24 0 s40) fun r55 s54 =>
          some ((), s54)
      else
        some ((), s36)
    else none
def L_equationsOf_2 (cf_equationsOf : Int32 → Int32 → TS → Option (Unit × TS)) : Nat → Int32 → Int32 → TS → Option (Unit × TS)
  | 0, _, _, _ => none
  | n + 1, x2, x3, σ =>
    if x3 = 0 then
      some ((), σ)
    else
      ob (F_isBad σ) fun r2 s1 =>
      if r2 = 0 then
        if inb x3 3000 then
        if tA s1 66 (ix x3) = 1 then
          if inb x3 3000 then
          ob (F_build (tA s1 67 (ix x3)) x2 0 1 s1) fun r9 s8 =>
          if inb x3 3000 then
          ob (F_build (tA s8 68 (ix x3)) x2 0 1 s8) fun r14 s13 =>
          ob (F_addEquation r9 r14 s13) fun r18 s17 =>
          if inb x3 3000 then
          nm (tA s17 70 (ix x3)) fun v22 =>
          L_equationsOf_2 cf_equationsOf n x2 v22 s17
          else none
          else none
          else none
        else
        if tA s1 66 (ix x3) = 2 then
          if inb x3 3000 then
          if inb x3 3000 then
          ob (F_connect (tA s1 67 (ix x3)) (tA s1 68 (ix x3)) x2 s1) fun r27 s26 =>
          if inb x3 3000 then
          nm (tA s26 70 (ix x3)) fun v31 =>
          L_equationsOf_2 cf_equationsOf n x2 v31 s26
          else none
          else none
          else none
        else
        if tA s1 66 (ix x3) = 3 then
          if inb x3 3000 then
          nm (tA s1 68 (ix x3)) fun v34 =>
          ob (L_equationsOf_113 cf_equationsOf FU x2 x3 v34 s1) fun q61 s62 =>
          if inb x3 3000 then
          nm (tA s62 70 (ix x3)) fun v65 =>
          L_equationsOf_2 cf_equationsOf n x2 v65 s62
          else none
          else none
        else
        if tA s1 66 (ix x3) = 4 then
          if inb x3 3000 then
          ob (F_truth (tA s1 67 (ix x3)) x2 s1) fun r70 s69 =>
          ob (F_isBad s69) fun r74 s73 =>
          if r74 = 0 then
            if r70 = 0 then
              if inb x3 3000 then
              ob (cf_equationsOf (tA s73 69 (ix x3)) x2 s73) fun r81 s80 =>
              if inb x3 3000 then
              nm (tA s80 70 (ix x3)) fun v85 =>
              L_equationsOf_2 cf_equationsOf n x2 v85 s80
              else none
              else none
            else
              if inb x3 3000 then
              ob (cf_equationsOf (tA s73 68 (ix x3)) x2 s73) fun r88 s87 =>
              if inb x3 3000 then
              nm (tA s87 70 (ix x3)) fun v92 =>
              L_equationsOf_2 cf_equationsOf n x2 v92 s87
              else none
              else none
          else
            if inb x3 3000 then
            nm (tA s73 70 (ix x3)) fun v78 =>
            L_equationsOf_2 cf_equationsOf n x2 v78 s73
            else none
          else none
        else
        ob (F_when x3 x2 s1) fun r96 s95 =>
        if inb x3 3000 then
        nm (tA s95 70 (ix x3)) fun v100 =>
        L_equationsOf_2 cf_equationsOf n x2 v100 s95
        else none
        else none
      else
        some ((), s1)
def B_equationsOf (cf_equationsOf : Int32 → Int32 → TS → Option (Unit × TS)) (x1 : Int32) (x2 : Int32) (σ : TS) : Option (Unit × TS) :=
  ob (L_equationsOf_2 cf_equationsOf FU x2 x1 σ) fun q103 s104 =>
  some ((), s104)
def G_equationsOf : Nat → (Int32 → Int32 → TS → Option (Unit × TS))
  | 0 => (fun _ _ _ => none)
  | d + 1 => (B_equationsOf (G_equationsOf d))
def F_equationsOf : Int32 → Int32 → TS → Option (Unit × TS) := (G_equationsOf 40)
def L_ownEquations_7 (cf_ownEquations : Int32 → Int32 → TS → Option (Unit × TS)) : Nat → Int32 → Int32 → Int32 → TS → Option (Unit × TS)
  | 0, _, _, _, _ => none
  | n + 1, x1, x2, x3, σ =>
    if inb x1 24 then
    if inb x1 24 then
    if (tA σ 45 (ix x1)) + (tA σ 46 (ix x1)) ≤ x3 then
      some ((), σ)
    else
      ob (F_isBad σ) fun r6 s5 =>
      if r6 = 0 then
        if inb x3 481 then
        if tA s5 57 (ix x3) = 0 then
          nm (x3 + 1) fun v11 =>
          L_ownEquations_7 cf_ownEquations n x1 x2 v11 s5
        else
          if inb x3 481 then
          ob (F_classOf (tB s5 51 (ix x3)) s5) fun r14 s13 =>
          ob (cf_ownEquations r14 x2 s13) fun r18 s17 =>
          nm (x3 + 1) fun v21 =>
          L_ownEquations_7 cf_ownEquations n x1 x2 v21 s17
          else none
        else none
      else
        some ((), s5)
    else none
    else none
def B_ownEquations (cf_ownEquations : Int32 → Int32 → TS → Option (Unit × TS)) (x1 : Int32) (x2 : Int32) (σ : TS) : Option (Unit × TS) :=
  if inb x1 24 then
  nm (tA σ 45 (ix x1)) fun v2 =>
  ob (L_ownEquations_7 cf_ownEquations FU x1 x2 v2 σ) fun q25 s26 =>
  ob (F_isBad s26) fun r29 s28 =>
  if r29 = 0 then
    if inb x1 24 then
    ob (F_equationsOf (tA s28 47 (ix x1)) x2 s28) fun r34 s33 =>
    some ((), s33)
    else none
  else
    some ((), s28)
  else none
def G_ownEquations : Nat → (Int32 → Int32 → TS → Option (Unit × TS))
  | 0 => (fun _ _ _ => none)
  | d + 1 => (B_ownEquations (G_ownEquations d))
def F_ownEquations : Int32 → Int32 → TS → Option (Unit × TS) := (G_ownEquations 40)
def L_collect_2 (cf_collect : Int32 → TS → Option (Unit × TS)) : Nat → Int32 → Int32 → TS → Option (Unit × TS)
  | 0, _, _, _ => none
  | n + 1, x1, x2, σ =>
    if tI σ 82 ≤ x2 then
      some ((), σ)
    else
      ob (F_isBad σ) fun r2 s1 =>
      if r2 = 0 then
        if inb x2 200 then
        if tA s1 75 (ix x2) = x1 then
          ob (cf_collect x2 s1) fun r8 s7 =>
          nm (x2 + 1) fun v11 =>
          L_collect_2 cf_collect n x1 v11 s7
        else
          nm (x2 + 1) fun v6 =>
          L_collect_2 cf_collect n x1 v6 s1
        else none
      else
        some ((), s1)
def B_collect (cf_collect : Int32 → TS → Option (Unit × TS)) (x1 : Int32) (σ : TS) : Option (Unit × TS) :=
  ob (L_collect_2 cf_collect FU x1 1 σ) fun q15 s16 =>
  ob (F_isBad s16) fun r19 s18 =>
  if r19 = 0 then
    if inb x1 200 then
    ob (F_ownEquations (tA s18 74 (ix x1)) x1 s18) fun r24 s23 =>
    some ((), s23)
    else none
  else
    some ((), s18)
def G_collect : Nat → (Int32 → TS → Option (Unit × TS))
  | 0 => (fun _ _ => none)
  | d + 1 => (B_collect (G_collect d))
def F_collect : Int32 → TS → Option (Unit × TS) := (G_collect 40)
def F_flag (σ : TS) : Option (Int32 × TS) :=
  if tI σ 11 = 1 then
    if lg_cmp (tL σ 16) (-11) = 0 then
      some (1, σ)
    else
      if lg_cmp (tL σ 16) 1718382455 = 0 then
        some (2, σ)
      else
        if lg_cmp (tL σ 16) 7235441147305620581 = 0 then
          some (4, σ)
        else
          if lg_cmp (tL σ 16) 452824294770 = 0 then
            some (8, σ)
          else
            if lg_cmp (tL σ 16) 478711932274 = 0 then
              some (16, σ)
            else
              if lg_cmp (tL σ 16) (-13) = 0 then
                some (32, σ)
              else
                some (0, σ)
  else
    some (0, σ)
def J_readUnit_51_6 (rec : Int32 → Int32 → TS → Option (Unit × TS)) (x1 : Int32) (x2 : Int32) (x3 : Int32) (σ : TS) : Option (Unit × TS) :=
  ob (F_passWhole 7 σ) fun r10 s9 =>
  if inb x1 481 then
  if x3 = 0 then
    if inb x1 481 then
    nm (tsA s9 54 (ix x1) ((tA s9 54 (ix x1)) ||| ((r10 + 8) <<< ((5 * x2) &&& 31)))) fun s15 =>
    nm (x2 + 1) fun v16 =>
    rec x1 v16 s15
    else none
  else
    if inb x1 481 then
    nm (tsA s9 54 (ix x1) ((tA s9 54 (ix x1)) ||| (((-r10) + 8) <<< ((5 * x2) &&& 31)))) fun s18 =>
    nm (x2 + 1) fun v19 =>
    rec x1 v19 s18
    else none
  else none
def J_readUnit_42_6 (rec : Int32 → Int32 → TS → Option (Unit × TS)) (x1 : Int32) (x2 : Int32) (y0 : Int32) (σ : TS) : Option (Unit × TS) :=
  if y0 = 0 then
    J_readUnit_51_6 rec x1 x2 y0 σ
  else
    ob (F_next σ) fun r22 s21 =>
    J_readUnit_51_6 rec x1 x2 y0 s21
def J_readUnit_41_6 (rec : Int32 → Int32 → TS → Option (Unit × TS)) (x1 : Int32) (x2 : Int32) (σ : TS) : Option (Unit × TS) :=
  J_readUnit_42_6 rec x1 x2 0 σ
def J_readUnit_21_6 (rec : Int32 → Int32 → TS → Option (Unit × TS)) (x1 : Int32) (x2 : Int32) (σ : TS) : Option (Unit × TS) :=
  ob (F_isBad σ) fun r6 s5 =>
  if r6 = 0 then
    ob (F_isSign 45 s5) fun r27 s26 =>
    if r27 = 0 then
      J_readUnit_41_6 rec x1 x2 s26
    else
      J_readUnit_42_6 rec x1 x2 1 s26
  else
    J_readUnit_41_6 rec x1 x2 s5
def L_readUnit_6 : Nat → Int32 → Int32 → TS → Option (Unit × TS)
  | 0, _, _, _ => none
  | n + 1, x1, x2, σ =>
    if 3 ≤ x2 then
      some ((), σ)
    else
      if x2 ≤ 0 then
        J_readUnit_21_6 (L_readUnit_6 n) x1 x2 σ
      else
        ob (F_pass 44 σ) fun r33 s32 =>
        J_readUnit_21_6 (L_readUnit_6 n) x1 x2 s32
def L_readUnit_97 : Nat → Int32 → Int32 → Int32 → TS → Option (Int32 × TS)
  | 0, _, _, _, _ => none
  | n + 1, x1, x2, x3, σ =>
    if 3 ≤ x3 then
      some (x2, σ)
    else
      if x2 = 0 then
        nm (x3 + 1) fun v41 =>
        L_readUnit_97 n x1 0 v41 σ
      else
        if inb x1 481 then
        if ((tA σ 54 (ix x1)) >>> ((5 * x3) &&& 31)) &&& 31 = 8 then
          nm (x3 + 1) fun v44 =>
          L_readUnit_97 n x1 1 v44 σ
        else
          nm (x3 + 1) fun v43 =>
          L_readUnit_97 n x1 0 v43 σ
        else none
def F_readUnit (x1 : Int32) (σ : TS) : Option (Unit × TS) :=
  ob (F_next σ) fun r2 s1 =>
  ob (L_readUnit_6 FU x1 0 s1) fun q38 s39 =>
  ob (L_readUnit_97 FU x1 1 0 s39) fun q48 s49 =>
  if q48 = 0 then
    if inb x1 481 then
    if inb x1 481 then
    nm (tsA s49 54 (ix x1) ((tA s49 54 (ix x1)) ||| 1048576)) fun s54 =>
    ob (F_pass 62 s54) fun r56 s55 =>
    some ((), s55)
    else none
    else none
  else
    if inb x1 481 then
    nm (tsA s49 54 (ix x1) 0) fun s60 =>
    ob (F_pass 62 s60) fun r62 s61 =>
    some ((), s61)
    else none
def J_path_36_4 (rec : Int32 → Int32 → TS → Option ((Int32 ⊕ Int32) × TS)) (x1 : Int32) (x2 : Int32) (x3 : Int32) (σ : TS) : Option ((Int32 ⊕ Int32) × TS) :=
  ob (F_newPart (tL σ 16) σ) fun r10 s9 =>
  ob (F_next s9) fun r14 s13 =>
  if x1 = 0 then
    if x3 = 0 then
      ob (F_isSign 46 s13) fun r30 s29 =>
      if r30 = 0 then
        some (.inl r10, s29)
      else
        ob (F_next s29) fun r34 s33 =>
        rec r10 r10 s33
    else
      some (.inl r10, s13)
  else
    if inb x2 7000 then
    nm (tsA s13 33 (ix x2) r10) fun s18 =>
    if x3 = 0 then
      ob (F_isSign 46 s18) fun r20 s19 =>
      if r20 = 0 then
        some (.inl x1, s19)
      else
        ob (F_next s19) fun r24 s23 =>
        rec x1 r10 s23
    else
      some (.inl x1, s18)
    else none
def L_path_4 : Nat → Int32 → Int32 → TS → Option ((Int32 ⊕ Int32) × TS)
  | 0, _, _, _ => none
  | n + 1, x1, x2, σ =>
    ob (F_isBad σ) fun r2 s1 =>
    if r2 = 0 then
      ob (F_isWord 495873782388 s1) fun r6 s5 =>
      if r6 = 0 then
        ob (F_isName s5) fun r41 s40 =>
        if r41 = 0 then
          ob (F_cantStand s40) fun r45 s44 =>
          some (.inr 0, s44)
        else
          J_path_36_4 (L_path_4 n) x1 x2 r6 s40
      else
        J_path_36_4 (L_path_4 n) x1 x2 r6 s5
    else
      some (.inl x1, s1)
def F_path (σ : TS) : Option (Int32 × TS) :=
  obS (L_path_4 FU 0 0 σ) (fun r55 s52 => some (r55, s52)) fun q51 s52 =>
  some (q51, s52)
def J_modsOf_146_26 (rec : Int32 → Int32 → TS → Option (Int32 × TS)) (x1 : Int32) (x2 : Int32) (x3 : Int32) (σ : TS) : Option (Int32 × TS) :=
  if x1 = 0 then
    ob (F_isSign 44 σ) fun r56 s55 =>
    if r56 = 0 then
      some (x3, s55)
    else
      ob (F_next s55) fun r60 s59 =>
      rec x3 x3 s59
  else
    if inb x2 2500 then
    nm (tsA σ 61 (ix x2) x3) fun s45 =>
    ob (F_isSign 44 s45) fun r47 s46 =>
    if r47 = 0 then
      some (x1, s46)
    else
      ob (F_next s46) fun r51 s50 =>
      rec x1 x3 s50
    else none
def J_modsOf_58_26 (rec : Int32 → Int32 → TS → Option (Int32 × TS)) (x1 : Int32) (x2 : Int32) (x3 : Int32) (σ : TS) : Option (Int32 × TS) :=
  if inb x3 2500 then
  nm (tsA σ 61 (ix x3) 0) fun s19 =>
  ob (F_isWord (-12) s19) fun r21 s20 =>
  if inb x3 2500 then
  nm (tsA s20 62 (ix x3) (nZ r21)) fun s25 =>
  if inb x3 2500 then
  if tA s25 62 (ix x3) = 0 then
    ob (F_path s25) fun r29 s28 =>
    if inb x3 2500 then
    nm (tsA s28 59 (ix x3) r29) fun s33 =>
    ob (F_pass 61 s33) fun r35 s34 =>
    ob (F_expression s34) fun r39 s38 =>
    if inb x3 2500 then
    nm (tsA s38 60 (ix x3) r39) fun s43 =>
    J_modsOf_146_26 rec x1 x2 x3 s43
    else none
    else none
  else
    ob (F_next s25) fun r66 s65 =>
    ob (F_passName s65) fun r70 s69 =>
    if inb x3 2500 then
    nm (tsB s69 63 (ix x3) r70) fun s74 =>
    ob (F_pass 61 s74) fun r76 s75 =>
    ob (F_passName s75) fun r80 s79 =>
    if inb x3 2500 then
    nm (tsB s79 64 (ix x3) r80) fun s84 =>
    J_modsOf_146_26 rec x1 x2 x3 s84
    else none
    else none
  else none
  else none
  else none
def L_modsOf_26 : Nat → Int32 → Int32 → TS → Option (Int32 × TS)
  | 0, _, _, _ => none
  | n + 1, x1, x2, σ =>
    ob (F_isBad σ) fun r14 s13 =>
    if r14 = 0 then
      nm (tI s13 65) fun v17 =>
      if 2499 ≤ tI s13 65 then
        J_modsOf_58_26 (L_modsOf_26 n) x1 x2 v17 s13
      else
        nm (tsI s13 65 ((tI s13 65) + 1)) fun s86 =>
        J_modsOf_58_26 (L_modsOf_26 n) x1 x2 v17 s86
    else
      some (x1, s13)
def F_modsOf (σ : TS) : Option (Int32 × TS) :=
  ob (F_isBad σ) fun r2 s1 =>
  if r2 = 0 then
    ob (F_isSign 40 s1) fun r6 s5 =>
    if r6 = 0 then
      some (0, s5)
    else
      ob (F_next s5) fun r10 s9 =>
      ob (L_modsOf_26 FU 0 0 s9) fun q89 s90 =>
      ob (F_pass 41 s90) fun r93 s92 =>
      some (q89, s92)
  else
    some (0, s1)
def L_component_0 : Nat → Int32 → Int32 → TS → Option ((Unit ⊕ Unit) × TS)
  | 0, _, _, _ => none
  | n + 1, x1, x2, σ =>
    ob (F_isBad σ) fun r2 s1 =>
    if r2 = 0 then
      ob (F_flag s1) fun r6 s5 =>
      if r6 = 0 then
        some (.inl (), s5)
      else
        ob (F_flag s5) fun r10 s9 =>
        if inb x2 481 then
        if (tA s9 52 (ix x2)) &&& r10 = 0 then
          if inb x2 481 then
          if inb x2 481 then
          nm (tsA s9 52 (ix x2) ((tA s9 52 (ix x2)) ||| r10)) fun s16 =>
          ob (F_next s16) fun r18 s17 =>
          L_component_0 n x1 x2 s17
          else none
          else none
        else
          ob (F_cantStand s9) fun r22 s21 =>
          some (.inr (), s21)
        else none
    else
      some (.inl (), s1)
def L_component_429 : Nat → Int32 → Int32 → Int32 → TS → Option (Unit × TS)
  | 0, _, _, _, _ => none
  | n + 1, x2, x4, x9, σ =>
    if x2 ≤ x9 then
      some ((), σ)
    else
      if inb x9 481 then
      if tA σ 57 (ix x9) = 0 then
        if inb x9 481 then
        if inb x2 481 then
        if lg_cmp (tB σ 50 (ix x9)) (tB σ 50 (ix x2)) = 0 then
          ob (F_bad 3 x4 σ) fun r93 s92 =>
          nm (x9 + 1) fun v96 =>
          L_component_429 n x2 x4 v96 s92
        else
          nm (x9 + 1) fun v91 =>
          L_component_429 n x2 x4 v91 σ
        else none
        else none
      else
        nm (x9 + 1) fun v88 =>
        L_component_429 n x2 x4 v88 σ
      else none
def J_component_406 (x1 : Int32) (x2 : Int32) (x4 : Int32) (y0 : Int32) (σ : TS) : Option (Unit × TS) :=
  if y0 = 0 then
    if inb x1 24 then
    nm (tA σ 45 (ix x1)) fun v85 =>
    ob (L_component_429 FU x2 x4 v85 σ) fun q100 s101 =>
    some ((), s101)
    else none
  else
    ob (F_bad 4 x4 σ) fun r105 s104 =>
    some ((), s104)
def J_component_401 (x1 : Int32) (x2 : Int32) (x4 : Int32) (σ : TS) : Option (Unit × TS) :=
  J_component_406 x1 x2 x4 1 σ
def J_component_405 (x1 : Int32) (x2 : Int32) (x4 : Int32) (σ : TS) : Option (Unit × TS) :=
  J_component_406 x1 x2 x4 0 σ
def J_component_392 (x1 : Int32) (x2 : Int32) (x3 : Int32) (x4 : Int32) (x5 : Int32) (σ : TS) : Option (Unit × TS) :=
  if x5 = 0 then
    J_component_405 x1 x2 x4 σ
  else
    if x3 = 0 then
      J_component_401 x1 x2 x4 σ
    else
      J_component_405 x1 x2 x4 σ
def J_component_373 (x1 : Int32) (x2 : Int32) (x3 : Int32) (x4 : Int32) (x5 : Int32) (σ : TS) : Option (Unit × TS) :=
  if inb x1 24 then
  if tA σ 44 (ix x1) = 1 then
    if x3 = 0 then
      J_component_401 x1 x2 x4 σ
    else
      if x5 = 0 then
        J_component_392 x1 x2 x3 x4 x5 σ
      else
        J_component_401 x1 x2 x4 σ
  else
    J_component_392 x1 x2 x3 x4 x5 σ
  else none
def J_component_335 (x1 : Int32) (x2 : Int32) (x3 : Int32) (x4 : Int32) (x5 : Int32) (x6 : Int32) (y0 : Int32) (σ : TS) : Option (Unit × TS) :=
  if y0 = 0 then
    if x6 &&& 16 = 0 then
      J_component_373 x1 x2 x3 x4 x5 σ
    else
      if inb x2 481 then
      if tA σ 55 (ix x2) = 0 then
        if x5 = 0 then
          if inb x2 481 then
          if 0 < tA σ 53 (ix x2) then
            J_component_401 x1 x2 x4 σ
          else
            J_component_373 x1 x2 x3 x4 x5 σ
          else none
        else
          J_component_401 x1 x2 x4 σ
      else
        J_component_401 x1 x2 x4 σ
      else none
  else
    J_component_401 x1 x2 x4 σ
def J_component_330 (x1 : Int32) (x2 : Int32) (x3 : Int32) (x4 : Int32) (x5 : Int32) (x6 : Int32) (σ : TS) : Option (Unit × TS) :=
  J_component_335 x1 x2 x3 x4 x5 x6 1 σ
def J_component_334 (x1 : Int32) (x2 : Int32) (x3 : Int32) (x4 : Int32) (x5 : Int32) (x6 : Int32) (σ : TS) : Option (Unit × TS) :=
  J_component_335 x1 x2 x3 x4 x5 x6 0 σ
def J_component_314 (x1 : Int32) (x2 : Int32) (x3 : Int32) (x4 : Int32) (x5 : Int32) (x6 : Int32) (σ : TS) : Option (Unit × TS) :=
  if x6 &&& 8 = 0 then
    J_component_334 x1 x2 x3 x4 x5 x6 σ
  else
    if x6 &&& 16 = 0 then
      J_component_334 x1 x2 x3 x4 x5 x6 σ
    else
      J_component_330 x1 x2 x3 x4 x5 x6 σ
def J_component_302 (x1 : Int32) (x2 : Int32) (x3 : Int32) (x4 : Int32) (x5 : Int32) (x6 : Int32) (σ : TS) : Option (Unit × TS) :=
  if x6 &&& 32 = 0 then
    J_component_314 x1 x2 x3 x4 x5 x6 σ
  else
    if x3 = 0 then
      J_component_314 x1 x2 x3 x4 x5 x6 σ
    else
      J_component_330 x1 x2 x3 x4 x5 x6 σ
def J_component_286 (x1 : Int32) (x2 : Int32) (x3 : Int32) (x4 : Int32) (x5 : Int32) (x6 : Int32) (σ : TS) : Option (Unit × TS) :=
  if x6 &&& 2 = 0 then
    J_component_302 x1 x2 x3 x4 x5 x6 σ
  else
    if inb x1 24 then
    if tA σ 44 (ix x1) = 0 then
      J_component_330 x1 x2 x3 x4 x5 x6 σ
    else
      J_component_302 x1 x2 x3 x4 x5 x6 σ
    else none
def J_component_239 (x1 : Int32) (x2 : Int32) (x3 : Int32) (x4 : Int32) (x5 : Int32) (σ : TS) : Option (Unit × TS) :=
  ob (F_pass 59 σ) fun r71 s70 =>
  ob (F_isBad s70) fun r75 s74 =>
  if r75 = 0 then
    if inb x2 481 then
    nm (tA s74 52 (ix x2)) fun v79 =>
    ob (F_bitCount (v79 &&& 7) s74) fun r81 s80 =>
    if 1 < r81 then
      J_component_330 x1 x2 x3 x4 x5 v79 s80
    else
      if r81 ≤ 0 then
        J_component_286 x1 x2 x3 x4 x5 v79 s80
      else
        if x3 = 0 then
          J_component_330 x1 x2 x3 x4 x5 v79 s80
        else
          J_component_286 x1 x2 x3 x4 x5 v79 s80
    else none
  else
    some ((), s74)
def J_component_218 (x1 : Int32) (x2 : Int32) (x3 : Int32) (x4 : Int32) (y0 : Int32) (σ : TS) : Option (Unit × TS) :=
  if y0 = 0 then
    J_component_239 x1 x2 x3 x4 y0 σ
  else
    ob (F_next σ) fun r134 s133 =>
    ob (F_expression s133) fun r138 s137 =>
    if inb x2 481 then
    nm (tsA s137 56 (ix x2) r138) fun s142 =>
    J_component_239 x1 x2 x3 x4 y0 s142
    else none
def J_component_217 (x1 : Int32) (x2 : Int32) (x3 : Int32) (x4 : Int32) (σ : TS) : Option (Unit × TS) :=
  J_component_218 x1 x2 x3 x4 0 σ
def J_component_187 (x1 : Int32) (x2 : Int32) (x3 : Int32) (x4 : Int32) (σ : TS) : Option (Unit × TS) :=
  ob (F_modsOf σ) fun r61 s60 =>
  if inb x2 481 then
  nm (tsA s60 55 (ix x2) r61) fun s65 =>
  ob (F_isBad s65) fun r67 s66 =>
  if r67 = 0 then
    ob (F_isSign 61 s66) fun r145 s144 =>
    if r145 = 0 then
      J_component_217 x1 x2 x3 x4 s144
    else
      J_component_218 x1 x2 x3 x4 1 s144
  else
    J_component_217 x1 x2 x3 x4 s66
  else none
def J_component_169 (x1 : Int32) (x2 : Int32) (x3 : Int32) (x4 : Int32) (σ : TS) : Option (Unit × TS) :=
  ob (F_passWhole 9 σ) fun r155 s154 =>
  if inb x2 481 then
  nm (tsA s154 53 (ix x2) r155) fun s159 =>
  ob (F_pass 93 s159) fun r161 s160 =>
  J_component_187 x1 x2 x3 x4 s160
  else none
def J_component_110 (x1 : Int32) (x2 : Int32) (x3 : Int32) (σ : TS) : Option (Unit × TS) :=
  nm (tI σ 12) fun v45 =>
  ob (F_passName σ) fun r47 s46 =>
  if inb x2 481 then
  nm (tsB s46 50 (ix x2) r47) fun s51 =>
  ob (F_isBad s51) fun r53 s52 =>
  if r53 = 0 then
    ob (F_isSign 91 s52) fun r57 s56 =>
    if r57 = 0 then
      J_component_187 x1 x2 x3 v45 s56
    else
      ob (F_next s56) fun r151 s150 =>
      if tI s150 11 = 2 then
        if 65536 ≤ tI s150 15 then
          J_component_169 x1 x2 x3 v45 s150
        else
          ob (F_cantStand s150) fun r165 s164 =>
          J_component_169 x1 x2 x3 v45 s164
      else
        J_component_169 x1 x2 x3 v45 s150
  else
    some ((), s52)
  else none
def J_component_52 (x1 : Int32) (x2 : Int32) (σ : TS) : Option (Unit × TS) :=
  ob (F_isBad σ) fun r32 s31 =>
  if r32 = 0 then
    ob (F_isWord 1919246700 s31) fun r36 s35 =>
    if r36 = 0 then
      ob (F_passName s35) fun r40 s39 =>
      if inb x2 481 then
      nm (tsB s39 51 (ix x2) r40) fun s44 =>
      J_component_110 x1 x2 r36 s44
      else none
    else
      ob (F_next s35) fun r173 s172 =>
      if inb x2 481 then
      nm (tsB s172 51 (ix x2) 0) fun s177 =>
      ob (F_isSign 60 s177) fun r179 s178 =>
      if r179 = 0 then
        J_component_110 x1 x2 r36 s178
      else
        ob (F_readUnit x2 s178) fun r183 s182 =>
        J_component_110 x1 x2 r36 s182
      else none
  else
    some ((), s31)
def F_component (x1 : Int32) (x2 : Int32) (σ : TS) : Option (Unit × TS) :=
  obS (L_component_0 FU x1 x2 σ) (fun r190 s29 => some (r190, s29)) fun q28 s29 =>
  J_component_52 x1 x2 s29
def L_memberVariable_5 : Nat → Int32 → Int32 → Int32 → Int32 → TS → Option ((Unit ⊕ Int32) × TS)
  | 0, _, _, _, _, _ => none
  | n + 1, x1, x2, x3, x4, σ =>
    if tI σ 107 ≤ x4 then
      some (.inl (), σ)
    else
      if inb x4 96 then
      if tA σ 96 (ix x4) = x1 then
        if x3 = x2 then
          some (.inr x4, σ)
        else
          nm (x3 + 1) fun v2 =>
          nm (x4 + 1) fun v3 =>
          L_memberVariable_5 n x1 x2 v2 v3 σ
      else
        nm (x4 + 1) fun v5 =>
        L_memberVariable_5 n x1 x2 x3 v5 σ
      else none
def F_memberVariable (x1 : Int32) (x2 : Int32) (σ : TS) : Option (Int32 × TS) :=
  obS (L_memberVariable_5 FU x1 x2 0 0 σ) (fun r12 s9 => some (r12, s9)) fun q8 s9 =>
  some ((-1), s9)
def J_setEquations_176_138 (rec : Int32 → Int32 → Int32 → Int32 → Int32 → TS → Option (Int32 × TS)) (x1 : Int32) (x2 : Int32) (x4 : Int32) (x5 : Int32) (x6 : Int32) (y1 : Int32) (σ : TS) : Option (Int32 × TS) :=
  ob (F_memberVariable (x6 / 2) x2 σ) fun r27 s26 =>
  ob (F_make 2 r27 0 0 s26) fun r31 s30 =>
  ob (F_make y1 x5 r31 0 s30) fun r35 s34 =>
  nm (x6 + 1) fun v38 =>
  rec x1 x2 x4 r35 v38 s34
def L_setEquations_138 : Nat → Int32 → Int32 → Int32 → Int32 → Int32 → TS → Option (Int32 × TS)
  | 0, _, _, _, _, _, _ => none
  | n + 1, x1, x2, x4, x5, x6, σ =>
    if 2 * (tI σ 82) ≤ x6 then
      some (x5, σ)
    else
      ob (F_headOf x6 σ) fun r23 s22 =>
      if r23 = x1 then
        if x6 - x6 / 2 * 2 = 0 then
          J_setEquations_176_138 (L_setEquations_138 n) x1 x2 x4 x5 x6 6 s22
        else
          J_setEquations_176_138 (L_setEquations_138 n) x1 x2 x4 x5 x6 5 s22
      else
        nm (x6 + 1) fun v40 =>
        L_setEquations_138 n x1 x2 x4 x5 v40 s22
def L_setEquations_43 : Nat → Int32 → Int32 → Int32 → Int32 → TS → Option (Unit × TS)
  | 0, _, _, _, _, _ => none
  | n + 1, x1, x2, x3, x4, σ =>
    if 2 * (tI σ 82) ≤ x4 then
      some ((), σ)
    else
      ob (F_isBad σ) fun r54 s53 =>
      if r54 = 0 then
        ob (F_headOf x4 s53) fun r58 s57 =>
        if r58 = x1 then
          ob (F_make 2 x3 0 0 s57) fun r62 s61 =>
          ob (F_memberVariable (x4 / 2) x2 s61) fun r66 s65 =>
          ob (F_make 2 r66 0 0 s65) fun r70 s69 =>
          ob (F_addEquation r62 r70 s69) fun r74 s73 =>
          nm (x4 + 1) fun v77 =>
          L_setEquations_43 n x1 x2 x3 v77 s73
        else
          nm (x4 + 1) fun v78 =>
          L_setEquations_43 n x1 x2 x3 v78 s57
      else
        some ((), s53)
def L_setEquations_2 : Nat → Int32 → Int32 → TS → Option (Unit × TS)
  | 0, _, _, _ => none
  | n + 1, x1, x2, σ =>
    ob (F_memberVariable (x1 / 2) x2 σ) fun r2 s1 =>
    if r2 < 0 then
      some ((), s1)
    else
      ob (F_isBad s1) fun r6 s5 =>
      if r6 = 0 then
        ob (F_memberVariable (x1 / 2) x2 s5) fun r10 s9 =>
        if inb r10 96 then
        if tA s9 99 (ix r10) = 0 then
          nm (x1 + 1) fun v52 =>
          ob (L_setEquations_43 FU x1 x2 r10 v52 s9) fun q82 s83 =>
          nm (x2 + 1) fun v85 =>
          L_setEquations_2 n x1 v85 s83
        else
          ob (F_make 0 0 0 0 s9) fun r15 s14 =>
          ob (F_make 0 0 0 0 s14) fun r19 s18 =>
          ob (L_setEquations_138 FU x1 x2 r15 r19 x1 s18) fun q43 s44 =>
          ob (F_addEquation r15 q43 s44) fun r47 s46 =>
          nm (x2 + 1) fun v50 =>
          L_setEquations_2 n x1 v50 s46
        else none
      else
        some ((), s5)
def F_setEquations (x1 : Int32) (σ : TS) : Option (Unit × TS) :=
  ob (L_setEquations_2 FU x1 0 σ) fun q90 s91 =>
  some ((), s91)
def L_connections_61 : Nat → Int32 → Int32 → Int32 → Int32 → TS → Option (Int32 × TS)
  | 0, _, _, _, _, _ => none
  | n + 1, x1, x2, x3, x4, σ =>
    if 2 * (tI σ 82) ≤ x4 then
      some (x3, σ)
    else
      ob (F_headOf x4 σ) fun r12 s11 =>
      if r12 = x1 then
        nm (x3 + 1) fun v16 =>
        nm (x4 + 1) fun v17 =>
        L_connections_61 n x1 x2 v16 v17 s11
      else
        nm (x4 + 1) fun v15 =>
        L_connections_61 n x1 x2 x3 v15 s11
def L_connections_134 : Nat → Int32 → Int32 → Int32 → TS → Option (Unit × TS)
  | 0, _, _, _, _ => none
  | n + 1, x1, x2, x4, σ =>
    ob (F_memberVariable x2 x4 σ) fun r25 s24 =>
    if r25 < 0 then
      some ((), s24)
    else
      ob (F_isBad s24) fun r29 s28 =>
      if r29 = 0 then
        ob (F_memberVariable x2 x4 s28) fun r33 s32 =>
        if inb r33 96 then
        if tA s32 99 (ix r33) = 0 then
          nm (x4 + 1) fun v50 =>
          L_connections_134 n x1 x2 v50 s32
        else
          ob (F_make 2 r33 0 0 s32) fun r38 s37 =>
          ob (F_make 0 0 0 0 s37) fun r42 s41 =>
          ob (F_addEquation r38 r42 s41) fun r46 s45 =>
          nm (x4 + 1) fun v49 =>
          L_connections_134 n x1 x2 v49 s45
        else none
      else
        some ((), s28)
def L_connections_7 : Nat → Int32 → TS → Option (Unit × TS)
  | 0, _, _ => none
  | n + 1, x1, σ =>
    if 2 * (tI σ 82) ≤ x1 then
      some ((), σ)
    else
      ob (F_isBad σ) fun r3 s2 =>
      if r3 = 0 then
        nm (x1 / 2) fun v6 =>
        if inb v6 200 then
        if inb (tA s2 74 (ix v6)) 24 then
        if tA s2 44 (ix (tA s2 74 (ix v6))) = 1 then
          if inb x1 400 then
          if tA s2 155 (ix x1) = x1 then
            ob (L_connections_61 FU x1 v6 0 x1 s2) fun q20 s21 =>
            if q20 < 2 then
              if x1 - x1 / 2 * 2 = 1 then
                ob (L_connections_134 FU x1 v6 0 s21) fun q54 s55 =>
                nm (x1 + 1) fun v57 =>
                L_connections_7 n v57 s55
              else
                nm (x1 + 1) fun v23 =>
                L_connections_7 n v23 s21
            else
              if inb (tI s21 156) 400 then
              nm (tsA s21 157 (ix (tI s21 156)) x1) fun s61 =>
              nm (tsI s61 156 ((tI s61 156) + 1)) fun s62 =>
              ob (F_setEquations x1 s62) fun r64 s63 =>
              nm (x1 + 1) fun v67 =>
              L_connections_7 n v67 s63
              else none
          else
            nm (x1 + 1) fun v70 =>
            L_connections_7 n v70 s2
          else none
        else
          nm (x1 + 1) fun v9 =>
          L_connections_7 n v9 s2
        else none
        else none
      else
        some ((), s2)
def F_connections (σ : TS) : Option (Unit × TS) :=
  nm (tsI σ 156 0) fun s1 =>
  ob (L_connections_7 FU 2 s1) fun q75 s76 =>
  some ((), s76)
def F_leafUnknown (x1 : Int32) (σ : TS) : Option (Int32 × TS) :=
  if inb x1 70000 then
  if tA σ 121 (ix x1) = 30 then
    if inb x1 70000 then
    some (tA σ 122 (ix x1), σ)
    else none
  else
    if inb x1 70000 then
    if inb (tA σ 122 (ix x1)) 96 then
    if inb (tA σ 177 (ix (tA σ 122 (ix x1)))) 96 then
    nm (tA σ 179 (ix (tA σ 177 (ix (tA σ 122 (ix x1)))))) fun v5 =>
    if inb x1 70000 then
    if tA σ 121 (ix x1) = 3 then
      if inb v5 200 then
      some (tA σ 189 (ix v5), σ)
      else none
    else
      some (v5, σ)
    else none
    else none
    else none
    else none
  else none
def B_contains (cf_contains : Int32 → Int32 → TS → Option (Int32 × TS)) (x1 : Int32) (x2 : Int32) (σ : TS) : Option (Int32 × TS) :=
  if inb x1 70000 then
  nm (tA σ 121 (ix x1)) fun v2 =>
  if v2 = 0 then
    some (0, σ)
  else
  if v2 = 1 then
    some (0, σ)
  else
  if v2 = 2 then
    if inb x1 70000 then
    if inb (tA σ 122 (ix x1)) 96 then
    if tA σ 94 (ix (tA σ 122 (ix x1))) = 0 then
      ob (F_leafUnknown x1 σ) fun r9 s8 =>
      if r9 = x2 then
        some (1, s8)
      else
        some (0, s8)
    else
      some (0, σ)
    else none
    else none
  else
  if v2 = 3 then
    ob (F_leafUnknown x1 σ) fun r16 s15 =>
    if r16 = x2 then
      some (1, s15)
    else
      some (0, s15)
  else
  if v2 = 4 then
    some (0, σ)
  else
  if v2 = 5 then
    if inb x1 70000 then
    ob (cf_contains (tA σ 122 (ix x1)) x2 σ) fun r24 s23 =>
    if r24 = 0 then
      if inb x1 70000 then
      ob (cf_contains (tA s23 123 (ix x1)) x2 s23) fun r29 s28 =>
      if r29 = 0 then
        some (0, s28)
      else
        some (1, s28)
      else none
    else
      some (1, s23)
    else none
  else
  if v2 = 6 then
    if inb x1 70000 then
    ob (cf_contains (tA σ 122 (ix x1)) x2 σ) fun r37 s36 =>
    if r37 = 0 then
      if inb x1 70000 then
      ob (cf_contains (tA s36 123 (ix x1)) x2 s36) fun r42 s41 =>
      if r42 = 0 then
        some (0, s41)
      else
        some (1, s41)
      else none
    else
      some (1, s36)
    else none
  else
  if v2 = 7 then
    if inb x1 70000 then
    ob (cf_contains (tA σ 122 (ix x1)) x2 σ) fun r50 s49 =>
    some (r50, s49)
    else none
  else
  if v2 = 8 then
    if inb x1 70000 then
    ob (cf_contains (tA σ 122 (ix x1)) x2 σ) fun r56 s55 =>
    if r56 = 0 then
      if inb x1 70000 then
      ob (cf_contains (tA s55 123 (ix x1)) x2 s55) fun r61 s60 =>
      if r61 = 0 then
        some (0, s60)
      else
        some (1, s60)
      else none
    else
      some (1, s55)
    else none
  else
  if v2 = 9 then
    if inb x1 70000 then
    ob (cf_contains (tA σ 122 (ix x1)) x2 σ) fun r69 s68 =>
    if r69 = 0 then
      if inb x1 70000 then
      ob (cf_contains (tA s68 123 (ix x1)) x2 s68) fun r74 s73 =>
      if r74 = 0 then
        some (0, s73)
      else
        some (1, s73)
      else none
    else
      some (1, s68)
    else none
  else
  if v2 = 10 then
    if inb x1 70000 then
    ob (cf_contains (tA σ 122 (ix x1)) x2 σ) fun r82 s81 =>
    some (r82, s81)
    else none
  else
  if v2 = 11 then
    if inb x1 70000 then
    ob (cf_contains (tA σ 122 (ix x1)) x2 σ) fun r88 s87 =>
    some (r88, s87)
    else none
  else
  if v2 = 12 then
    if inb x1 70000 then
    ob (cf_contains (tA σ 122 (ix x1)) x2 σ) fun r94 s93 =>
    some (r94, s93)
    else none
  else
  if v2 = 13 then
    if inb x1 70000 then
    ob (cf_contains (tA σ 122 (ix x1)) x2 σ) fun r100 s99 =>
    some (r100, s99)
    else none
  else
  if v2 = 14 then
    if inb x1 70000 then
    ob (cf_contains (tA σ 122 (ix x1)) x2 σ) fun r106 s105 =>
    if r106 = 0 then
      if inb x1 70000 then
      ob (cf_contains (tA s105 123 (ix x1)) x2 s105) fun r111 s110 =>
      if r111 = 0 then
        some (0, s110)
      else
        some (1, s110)
      else none
    else
      some (1, s105)
    else none
  else
  if v2 = 15 then
    if inb x1 70000 then
    ob (cf_contains (tA σ 122 (ix x1)) x2 σ) fun r119 s118 =>
    if r119 = 0 then
      if inb x1 70000 then
      ob (cf_contains (tA s118 123 (ix x1)) x2 s118) fun r124 s123 =>
      if r124 = 0 then
        some (0, s123)
      else
        some (1, s123)
      else none
    else
      some (1, s118)
    else none
  else
  if v2 = 16 then
    if inb x1 70000 then
    ob (cf_contains (tA σ 122 (ix x1)) x2 σ) fun r132 s131 =>
    if r132 = 0 then
      if inb x1 70000 then
      ob (cf_contains (tA s131 123 (ix x1)) x2 s131) fun r137 s136 =>
      if r137 = 0 then
        if inb x1 70000 then
        ob (cf_contains (tA s136 124 (ix x1)) x2 s136) fun r142 s141 =>
        if r142 = 0 then
          some (0, s141)
        else
          some (1, s141)
        else none
      else
        some (1, s136)
      else none
    else
      some (1, s131)
    else none
  else
  if v2 = 17 then
    if inb x1 70000 then
    ob (cf_contains (tA σ 122 (ix x1)) x2 σ) fun r151 s150 =>
    if r151 = 0 then
      if inb x1 70000 then
      ob (cf_contains (tA s150 123 (ix x1)) x2 s150) fun r156 s155 =>
      if r156 = 0 then
        some (0, s155)
      else
        some (1, s155)
      else none
    else
      some (1, s150)
    else none
  else
  if v2 = 18 then
    if inb x1 70000 then
    ob (cf_contains (tA σ 122 (ix x1)) x2 σ) fun r164 s163 =>
    if r164 = 0 then
      if inb x1 70000 then
      ob (cf_contains (tA s163 123 (ix x1)) x2 s163) fun r169 s168 =>
      if r169 = 0 then
        some (0, s168)
      else
        some (1, s168)
      else none
    else
      some (1, s163)
    else none
  else
  if v2 = 19 then
    if inb x1 70000 then
    ob (cf_contains (tA σ 122 (ix x1)) x2 σ) fun r177 s176 =>
    if r177 = 0 then
      if inb x1 70000 then
      ob (cf_contains (tA s176 123 (ix x1)) x2 s176) fun r182 s181 =>
      if r182 = 0 then
        some (0, s181)
      else
        some (1, s181)
      else none
    else
      some (1, s176)
    else none
  else
  if v2 = 20 then
    if inb x1 70000 then
    ob (cf_contains (tA σ 123 (ix x1)) x2 σ) fun r190 s189 =>
    if r190 = 0 then
      if inb x1 70000 then
      ob (cf_contains (tA s189 124 (ix x1)) x2 s189) fun r195 s194 =>
      if r195 = 0 then
        some (0, s194)
      else
        some (1, s194)
      else none
    else
      some (1, s189)
    else none
  else
  if v2 = 21 then
    if inb x1 70000 then
    ob (cf_contains (tA σ 122 (ix x1)) x2 σ) fun r203 s202 =>
    if r203 = 0 then
      if inb x1 70000 then
      ob (cf_contains (tA s202 123 (ix x1)) x2 s202) fun r208 s207 =>
      if r208 = 0 then
        some (0, s207)
      else
        some (1, s207)
      else none
    else
      some (1, s202)
    else none
  else
  if v2 = 22 then
    if inb x1 70000 then
    ob (cf_contains (tA σ 122 (ix x1)) x2 σ) fun r216 s215 =>
    if r216 = 0 then
      if inb x1 70000 then
      ob (cf_contains (tA s215 123 (ix x1)) x2 s215) fun r221 s220 =>
      if r221 = 0 then
        some (0, s220)
      else
        some (1, s220)
      else none
    else
      some (1, s215)
    else none
  else
  if v2 = 23 then
    if inb x1 70000 then
    ob (cf_contains (tA σ 122 (ix x1)) x2 σ) fun r229 s228 =>
    some (r229, s228)
    else none
  else
  if v2 = 24 then
    some (0, σ)
  else
  if v2 = 25 then
    if inb x1 70000 then
    ob (cf_contains (tA σ 123 (ix x1)) x2 σ) fun r236 s235 =>
    if r236 = 0 then
      if inb x1 70000 then
      ob (cf_contains (tA s235 124 (ix x1)) x2 s235) fun r241 s240 =>
      if r241 = 0 then
        some (0, s240)
      else
        some (1, s240)
      else none
    else
      some (1, s235)
    else none
  else
  if v2 = 26 then
    if inb x1 70000 then
    ob (cf_contains (tA σ 122 (ix x1)) x2 σ) fun r249 s248 =>
    if r249 = 0 then
      if inb x1 70000 then
      ob (cf_contains (tA s248 123 (ix x1)) x2 s248) fun r254 s253 =>
      if r254 = 0 then
        some (0, s253)
      else
        some (1, s253)
      else none
    else
      some (1, s248)
    else none
  else
  if v2 = 27 then
    if inb x1 70000 then
    ob (cf_contains (tA σ 122 (ix x1)) x2 σ) fun r262 s261 =>
    if r262 = 0 then
      if inb x1 70000 then
      ob (cf_contains (tA s261 123 (ix x1)) x2 s261) fun r267 s266 =>
      if r267 = 0 then
        some (0, s266)
      else
        some (1, s266)
      else none
    else
      some (1, s261)
    else none
  else
  if v2 = 28 then
    if inb x1 70000 then
    ob (cf_contains (tA σ 122 (ix x1)) x2 σ) fun r275 s274 =>
    if r275 = 0 then
      if inb x1 70000 then
      ob (cf_contains (tA s274 123 (ix x1)) x2 s274) fun r280 s279 =>
      if r280 = 0 then
        some (0, s279)
      else
        some (1, s279)
      else none
    else
      some (1, s274)
    else none
  else
  if v2 = 29 then
    if inb x1 70000 then
    ob (cf_contains (tA σ 122 (ix x1)) x2 σ) fun r288 s287 =>
    if r288 = 0 then
      if inb x1 70000 then
      ob (cf_contains (tA s287 123 (ix x1)) x2 s287) fun r293 s292 =>
      if r293 = 0 then
        some (0, s292)
      else
        some (1, s292)
      else none
    else
      some (1, s287)
    else none
  else
  if v2 = 30 then
    ob (F_leafUnknown x1 σ) fun r300 s299 =>
    if r300 = x2 then
      some (1, s299)
    else
      some (0, s299)
  else
  if inb x1 70000 then
  ob (cf_contains (tA σ 122 (ix x1)) x2 σ) fun r306 s305 =>
  if r306 = 0 then
    if inb x1 70000 then
    ob (cf_contains (tA s305 123 (ix x1)) x2 s305) fun r311 s310 =>
    if r311 = 0 then
      some (0, s310)
    else
      some (1, s310)
    else none
  else
    some (1, s305)
  else none
  else none
def G_contains : Nat → (Int32 → Int32 → TS → Option (Int32 × TS))
  | 0 => (fun _ _ _ => none)
  | d + 1 => (B_contains (G_contains d))
def F_contains : Int32 → Int32 → TS → Option (Int32 × TS) := (G_contains 300)
