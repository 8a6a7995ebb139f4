set_option maxRecDepth 100000
def L_theClass_23 : Nat → Int64 → Int32 → TS → Option ((Int64 ⊕ Int32) × TS)
  | 0, _, _, _ => none
  | n + 1, x1, x3, σ =>
    if tI σ 8 ≤ x3 then
      some (.inl x1, σ)
    else
      ob (F_byteAt x3 σ) fun r2 s1 =>
      ob (F_isLetter r2 s1) fun r6 s5 =>
      if r6 = 0 then
        if x3 = 0 then
          some (.inr (-1), s5)
        else
          ob (F_isDigit r2 s5) fun r12 s11 =>
          if r12 = 0 then
            if r2 = 95 then
              nm ((x1 <<< (((8 : Int32)).toInt64 &&& 63)) ||| ((r2).toInt64)) fun v17 =>
              nm (x3 + 1) fun v18 =>
              L_theClass_23 n v17 v18 s11
            else
              some (.inr (-1), s11)
          else
            nm ((x1 <<< (((8 : Int32)).toInt64 &&& 63)) ||| ((r2).toInt64)) fun v15 =>
            nm (x3 + 1) fun v16 =>
            L_theClass_23 n v15 v16 s11
      else
        nm ((x1 <<< (((8 : Int32)).toInt64 &&& 63)) ||| ((r2).toInt64)) fun v9 =>
        nm (x3 + 1) fun v10 =>
        L_theClass_23 n v9 v10 s5
def F_theClass (σ : TS) : Option (Int32 × TS) :=
  if tI σ 8 < 1 then
    some ((-1), σ)
  else
    if tI σ 8 ≤ 8 then
      obS (L_theClass_23 FU 0 0 σ) (fun r35 s25 => some (r35, s25)) fun q24 s25 =>
      ob (F_classOf q24 s25) fun r28 s27 =>
      if r28 < 0 then
        some ((-1), s27)
      else
        if inb r28 24 then
        if tA s27 44 (ix r28) = 0 then
          some (r28, s27)
        else
          some ((-1), s27)
        else none
    else
      some ((-1), σ)
def J_numberIn_85_38 (cf_numberIn : Int32 → TS → Option (Unit × TS)) (rec : Int32 → Int32 → TS → Option (Int32 × TS)) (x3 : Int32) (x4 : Int32) (σ : TS) : Option (Int32 × TS) :=
  if inb (tI σ 140) 12100 then
  nm (tsA σ 139 (ix (tI σ 140)) x4) fun s6 =>
  nm (tsI s6 140 ((tI s6 140) + 1)) fun s7 =>
  if inb x4 70000 then
  nm (tA s7 122 (ix x4)) fun v9 =>
  rec x3 v9 s7
  else none
  else none
def L_numberIn_38 (cf_numberIn : Int32 → TS → Option (Unit × TS)) : Nat → Int32 → Int32 → TS → Option (Int32 × TS)
  | 0, _, _, _ => none
  | n + 1, x3, x4, σ =>
    if inb x4 70000 then
    if tA σ 121 (ix x4) = 5 then
      J_numberIn_85_38 cf_numberIn (L_numberIn_38 cf_numberIn n) x3 x4 σ
    else
      if inb x4 70000 then
      if tA σ 121 (ix x4) = 6 then
        J_numberIn_85_38 cf_numberIn (L_numberIn_38 cf_numberIn n) x3 x4 σ
      else
        if inb x4 70000 then
        if tA σ 121 (ix x4) = 8 then
          J_numberIn_85_38 cf_numberIn (L_numberIn_38 cf_numberIn n) x3 x4 σ
        else
          if inb x4 70000 then
          if tA σ 121 (ix x4) = 9 then
            J_numberIn_85_38 cf_numberIn (L_numberIn_38 cf_numberIn n) x3 x4 σ
          else
            some (x4, σ)
          else none
        else none
      else none
    else none
def L_numberIn_124 (cf_numberIn : Int32 → TS → Option (Unit × TS)) : Nat → Int32 → TS → Option (Unit × TS)
  | 0, _, _ => none
  | n + 1, x3, σ =>
    if tI σ 140 ≤ x3 then
      some ((), σ)
    else
      nm (tsI σ 140 ((tI σ 140) - 1)) fun s24 =>
      if inb (tI s24 140) 12100 then
      if inb (tA s24 139 (ix (tI s24 140))) 70000 then
      ob (cf_numberIn (tA s24 123 (ix (tA s24 139 (ix (tI s24 140))))) s24) fun r28 s27 =>
      L_numberIn_124 cf_numberIn n x3 s27
      else none
      else none
def J_numberIn_30 (cf_numberIn : Int32 → TS → Option (Unit × TS)) (x1 : Int32) (σ : TS) : Option (Unit × TS) :=
  nm (tI σ 140) fun v3 =>
  ob (L_numberIn_38 cf_numberIn FU v3 x1 σ) fun q17 s18 =>
  ob (cf_numberIn q17 s18) fun r21 s20 =>
  ob (L_numberIn_124 cf_numberIn FU v3 s20) fun q32 s33 =>
  some ((), s33)
def J_numberIn_339 (cf_numberIn : Int32 → TS → Option (Unit × TS)) (x1 : Int32) (σ : TS) : Option (Unit × TS) :=
  if tI σ 154 = 24 then
    ob (F_bad 24 0 σ) fun r98 s97 =>
    some ((), s97)
  else
    if inb x1 70000 then
    nm (tsA σ 162 (ix x1) (tI σ 154)) fun s93 =>
    if inb (tI s93 154) 24 then
    nm (tsA s93 153 (ix (tI s93 154)) x1) fun s95 =>
    nm (tsI s95 154 ((tI s95 154) + 1)) fun s96 =>
    some ((), s96)
    else none
    else none
def J_numberIn_313 (cf_numberIn : Int32 → TS → Option (Unit × TS)) (x1 : Int32) (x2 : Int32) (σ : TS) : Option (Unit × TS) :=
  if x2 = 20 then
    if inb x1 70000 then
    ob (cf_numberIn (tA σ 123 (ix x1)) σ) fun r104 s103 =>
    if inb x1 70000 then
    ob (cf_numberIn (tA s103 124 (ix x1)) s103) fun r109 s108 =>
    J_numberIn_339 cf_numberIn x1 s108
    else none
    else none
  else
    J_numberIn_339 cf_numberIn x1 σ
def B_numberIn (cf_numberIn : Int32 → TS → Option (Unit × TS)) (x1 : Int32) (σ : TS) : Option (Unit × TS) :=
  if inb x1 70000 then
  nm (tA σ 121 (ix x1)) fun v2 =>
  if v2 = 5 then
    J_numberIn_30 cf_numberIn x1 σ
  else
    if v2 = 6 then
      J_numberIn_30 cf_numberIn x1 σ
    else
      if v2 = 8 then
        J_numberIn_30 cf_numberIn x1 σ
      else
        if v2 = 9 then
          J_numberIn_30 cf_numberIn x1 σ
        else
          if v2 = 14 then
            if inb x1 70000 then
            ob (cf_numberIn (tA σ 122 (ix x1)) σ) fun r39 s38 =>
            if inb x1 70000 then
            ob (cf_numberIn (tA s38 123 (ix x1)) s38) fun r44 s43 =>
            some ((), s43)
            else none
            else none
          else
            if v2 = 15 then
              if inb x1 70000 then
              ob (cf_numberIn (tA σ 122 (ix x1)) σ) fun r49 s48 =>
              if inb x1 70000 then
              ob (cf_numberIn (tA s48 123 (ix x1)) s48) fun r54 s53 =>
              some ((), s53)
              else none
              else none
            else
              if v2 = 21 then
                if inb x1 70000 then
                ob (cf_numberIn (tA σ 122 (ix x1)) σ) fun r59 s58 =>
                if inb x1 70000 then
                ob (cf_numberIn (tA s58 123 (ix x1)) s58) fun r64 s63 =>
                some ((), s63)
                else none
                else none
              else
                if v2 = 22 then
                  if inb x1 70000 then
                  ob (cf_numberIn (tA σ 122 (ix x1)) σ) fun r144 s143 =>
                  if inb x1 70000 then
                  ob (cf_numberIn (tA s143 123 (ix x1)) s143) fun r149 s148 =>
                  some ((), s148)
                  else none
                  else none
                else
                  if v2 = 7 then
                    if inb x1 70000 then
                    ob (cf_numberIn (tA σ 122 (ix x1)) σ) fun r69 s68 =>
                    some ((), s68)
                    else none
                  else
                    if v2 = 10 then
                      if inb x1 70000 then
                      ob (cf_numberIn (tA σ 122 (ix x1)) σ) fun r74 s73 =>
                      some ((), s73)
                      else none
                    else
                      if v2 = 11 then
                        if inb x1 70000 then
                        ob (cf_numberIn (tA σ 122 (ix x1)) σ) fun r79 s78 =>
                        some ((), s78)
                        else none
                      else
                        if v2 = 12 then
                          if inb x1 70000 then
                          ob (cf_numberIn (tA σ 122 (ix x1)) σ) fun r84 s83 =>
                          some ((), s83)
                          else none
                        else
                          if v2 = 13 then
                            if inb x1 70000 then
                            ob (cf_numberIn (tA σ 122 (ix x1)) σ) fun r89 s88 =>
                            some ((), s88)
                            else none
                          else
                            if v2 = 23 then
                              if inb x1 70000 then
                              ob (cf_numberIn (tA σ 122 (ix x1)) σ) fun r133 s132 =>
                              some ((), s132)
                              else none
                            else
                              if v2 = 16 then
                                if inb x1 70000 then
                                ob (cf_numberIn (tA σ 122 (ix x1)) σ) fun r117 s116 =>
                                if inb x1 70000 then
                                ob (cf_numberIn (tA s116 123 (ix x1)) s116) fun r122 s121 =>
                                if inb x1 70000 then
                                ob (cf_numberIn (tA s121 124 (ix x1)) s121) fun r127 s126 =>
                                some ((), s126)
                                else none
                                else none
                                else none
                              else
                                if v2 = 20 then
                                  J_numberIn_313 cf_numberIn x1 v2 σ
                                else
                                  if v2 = 24 then
                                    J_numberIn_313 cf_numberIn x1 v2 σ
                                  else
                                    some ((), σ)
  else none
def G_numberIn : Nat → (Int32 → TS → Option (Unit × TS))
  | 0 => (fun _ _ => none)
  | d + 1 => (B_numberIn (G_numberIn d))
def F_numberIn : Int32 → TS → Option (Unit × TS) := (G_numberIn 300)
def L_numberAll_2 : Nat → Int32 → TS → Option (Unit × TS)
  | 0, _, _ => none
  | n + 1, x1, σ =>
    if tI σ 143 ≤ x1 then
      some ((), σ)
    else
      ob (F_isBad σ) fun r2 s1 =>
      if r2 = 0 then
        if inb x1 400 then
        ob (F_numberIn (tA s1 141 (ix x1)) s1) fun r7 s6 =>
        if inb x1 400 then
        ob (F_numberIn (tA s6 142 (ix x1)) s6) fun r12 s11 =>
        nm (x1 + 1) fun v15 =>
        L_numberAll_2 n v15 s11
        else none
        else none
      else
        some ((), s1)
def L_numberAll_77 : Nat → Int32 → Int32 → TS → Option (Unit × TS)
  | 0, _, _, _ => none
  | n + 1, x1, x2, σ =>
    if inb x1 12 then
    if inb x1 12 then
    if (tA σ 146 (ix x1)) + (tA σ 147 (ix x1)) ≤ x2 then
      some ((), σ)
    else
      if inb x2 200 then
      ob (F_numberIn (tA σ 151 (ix x2)) σ) fun r36 s35 =>
      nm (x2 + 1) fun v39 =>
      L_numberAll_77 n x1 v39 s35
      else none
    else none
    else none
def L_numberAll_45 : Nat → Int32 → TS → Option (Unit × TS)
  | 0, _, _ => none
  | n + 1, x1, σ =>
    if tI σ 148 ≤ x1 then
      some ((), σ)
    else
      ob (F_isBad σ) fun r22 s21 =>
      if r22 = 0 then
        if inb x1 12 then
        ob (F_numberIn (tA s21 145 (ix x1)) s21) fun r27 s26 =>
        if inb x1 12 then
        nm (tA s26 146 (ix x1)) fun v31 =>
        ob (L_numberAll_77 FU x1 v31 s26) fun q41 s42 =>
        nm (x1 + 1) fun v44 =>
        L_numberAll_45 n v44 s42
        else none
        else none
      else
        some ((), s21)
def J_numberAll_43 (σ : TS) : Option (Unit × TS) :=
  ob (L_numberAll_45 FU 0 σ) fun q48 s49 =>
  some ((), s49)
def F_numberAll (σ : TS) : Option (Unit × TS) :=
  ob (L_numberAll_2 FU 0 σ) fun q18 s19 =>
  J_numberAll_43 s19
def F_startOf (x1 : Int32) (σ : TS) : Option (Unit × TS) :=
  if inb x1 96 then
  if tA σ 159 (ix x1) = 0 then
    if inb x1 96 then
    nm (tsA σ 105 (ix x1) 0) fun s10 =>
    some ((), s10)
    else none
  else
    if inb x1 96 then
    ob (F_worth (tA σ 159 (ix x1)) 0 σ) fun r4 s3 =>
    if inb x1 96 then
    nm (tsA s3 105 (ix x1) r4) fun s8 =>
    some ((), s8)
    else none
    else none
  else none
def L_makeFlat_158 : Nat → Int32 → TS → Option (Unit × TS)
  | 0, _, _ => none
  | n + 1, x2, σ =>
    if tI σ 89 ≤ x2 then
      some ((), σ)
    else
      ob (F_isBad σ) fun r40 s39 =>
      if r40 = 0 then
        if inb x2 96001 then
        if inb (tA s39 84 (ix x2)) 481 then
        if (tA s39 52 (ix (tA s39 84 (ix x2)))) &&& 16 = 0 then
          nm (x2 + 1) fun v45 =>
          L_makeFlat_158 n v45 s39
        else
          ob (F_innerOf x2 s39) fun r47 s46 =>
          nm (x2 + 1) fun v50 =>
          L_makeFlat_158 n v50 s46
        else none
        else none
      else
        some ((), s39)
def L_makeFlat_204 : Nat → Int32 → TS → Option (Unit × TS)
  | 0, _, _ => none
  | n + 1, x2, σ =>
    if 400 ≤ x2 then
      some ((), σ)
    else
      if inb x2 400 then
      nm (tsA σ 155 (ix x2) x2) fun s58 =>
      nm (x2 + 1) fun v59 =>
      L_makeFlat_204 n v59 s58
      else none
def L_makeFlat_226 : Nat → Int32 → TS → Option (Unit × TS)
  | 0, _, _ => none
  | n + 1, x2, σ =>
    if tI σ 107 ≤ x2 then
      some ((), σ)
    else
      if inb x2 96 then
      nm (tsA σ 160 (ix x2) 0) fun s65 =>
      if inb x2 96 then
      nm (tsA s65 104 (ix x2) 0) fun s67 =>
      if inb x2 96 then
      nm (tsA s67 158 (ix x2) 0) fun s69 =>
      if inb x2 96 then
      nm (tsA s69 159 (ix x2) 0) fun s71 =>
      nm (x2 + 1) fun v72 =>
      L_makeFlat_226 n v72 s71
      else none
      else none
      else none
      else none
def L_makeFlat_280 : Nat → Int32 → TS → Option (Unit × TS)
  | 0, _, _ => none
  | n + 1, x2, σ =>
    if tI σ 107 ≤ x2 then
      some ((), σ)
    else
      ob (F_isBad σ) fun r80 s79 =>
      if r80 = 0 then
        if inb x2 96 then
        if tA s79 94 (ix x2) = 1 then
          if inb x2 96 then
          if tA s79 100 (ix x2) = 0 then
            nm (x2 + 1) fun v86 =>
            L_makeFlat_280 n v86 s79
          else
            if inb x2 96 then
            if inb x2 96 then
            ob (F_build (tA s79 100 (ix x2)) (tA s79 101 (ix x2)) 0 1 s79) fun r90 s89 =>
            if inb x2 96 then
            nm (tsA s89 158 (ix x2) r90) fun s94 =>
            nm (x2 + 1) fun v95 =>
            L_makeFlat_280 n v95 s94
            else none
            else none
            else none
          else none
        else
          nm (x2 + 1) fun v84 =>
          L_makeFlat_280 n v84 s79
        else none
      else
        some ((), s79)
def L_makeFlat_351 : Nat → Int32 → TS → Option (Unit × TS)
  | 0, _, _ => none
  | n + 1, x2, σ =>
    if tI σ 107 ≤ x2 then
      some ((), σ)
    else
      ob (F_isBad σ) fun r105 s104 =>
      if r105 = 0 then
        if inb x2 96 then
        if tA s104 94 (ix x2) = 1 then
          ob (F_parameter x2 s104) fun r111 s110 =>
          nm (x2 + 1) fun v114 =>
          L_makeFlat_351 n v114 s110
        else
          nm (x2 + 1) fun v109 =>
          L_makeFlat_351 n v109 s104
        else none
      else
        some ((), s104)
def L_makeFlat_389 : Nat → Int32 → TS → Option (Unit × TS)
  | 0, _, _ => none
  | n + 1, x2, σ =>
    if tI σ 107 ≤ x2 then
      some ((), σ)
    else
      ob (F_isBad σ) fun r122 s121 =>
      if r122 = 0 then
        if inb x2 96 then
        if tA s121 94 (ix x2) = 1 then
          nm (x2 + 1) fun v126 =>
          L_makeFlat_389 n v126 s121
        else
          if inb x2 96 then
          if tA s121 100 (ix x2) = 0 then
            nm (x2 + 1) fun v143 =>
            L_makeFlat_389 n v143 s121
          else
            ob (F_make 2 x2 0 0 s121) fun r129 s128 =>
            if inb x2 96 then
            if inb x2 96 then
            ob (F_build (tA s128 100 (ix x2)) (tA s128 101 (ix x2)) 0 1 s128) fun r135 s134 =>
            ob (F_addEquation r129 r135 s134) fun r139 s138 =>
            nm (x2 + 1) fun v142 =>
            L_makeFlat_389 n v142 s138
            else none
            else none
          else none
        else none
      else
        some ((), s121)
def L_makeFlat_524 : Nat → Int32 → TS → Option (Unit × TS)
  | 0, _, _ => none
  | n + 1, x2, σ =>
    if tI σ 107 ≤ x2 then
      some ((), σ)
    else
      ob (F_isBad σ) fun r170 s169 =>
      if r170 = 0 then
        if inb x2 96 then
        if tA s169 102 (ix x2) = 0 then
          nm (x2 + 1) fun v174 =>
          L_makeFlat_524 n v174 s169
        else
          if inb x2 96 then
          if inb x2 96 then
          ob (F_build (tA s169 102 (ix x2)) (tA s169 103 (ix x2)) 0 1 s169) fun r178 s177 =>
          if inb x2 96 then
          nm (tsA s177 159 (ix x2) r178) fun s182 =>
          nm (x2 + 1) fun v183 =>
          L_makeFlat_524 n v183 s182
          else none
          else none
          else none
        else none
      else
        some ((), s169)
def L_makeFlat_585 : Nat → Int32 → TS → Option (Unit × TS)
  | 0, _, _ => none
  | n + 1, x2, σ =>
    if tI σ 107 ≤ x2 then
      some ((), σ)
    else
      ob (F_isBad σ) fun r192 s191 =>
      if r192 = 0 then
        ob (F_startOf x2 s191) fun r196 s195 =>
        nm (x2 + 1) fun v199 =>
        L_makeFlat_585 n v199 s195
      else
        some ((), s191)
def L_makeFlat_631 : Nat → Int32 → TS → Option (Unit × TS)
  | 0, _, _ => none
  | n + 1, x2, σ =>
    if tI σ 144 ≤ x2 then
      some ((), σ)
    else
      if inb x2 400 then
      if inb x2 120 then
      nm (tsA σ 174 (ix x2) (tA σ 141 (ix x2))) fun s210 =>
      if inb x2 400 then
      if inb x2 120 then
      nm (tsA s210 175 (ix x2) (tA s210 142 (ix x2))) fun s213 =>
      nm (x2 + 1) fun v214 =>
      L_makeFlat_631 n v214 s213
      else none
      else none
      else none
      else none
def J_makeFlat_611 (σ : TS) : Option (Unit × TS) :=
  nm (tsI σ 130 0) fun s205 =>
  nm (tsI s205 128 (tI s205 126)) fun s206 =>
  nm (tsI s206 129 0) fun s207 =>
  ob (L_makeFlat_631 FU 0 s207) fun q216 s217 =>
  some ((), s217)
def J_makeFlat_578 (σ : TS) : Option (Unit × TS) :=
  nm (tsI σ 138 0) fun s190 =>
  ob (L_makeFlat_585 FU 0 s190) fun q202 s203 =>
  J_makeFlat_611 s203
def J_makeFlat_517 (σ : TS) : Option (Unit × TS) :=
  nm (tsI σ 138 1) fun s168 =>
  ob (L_makeFlat_524 FU 0 s168) fun q187 s188 =>
  J_makeFlat_578 s188
def J_makeFlat_506 (σ : TS) : Option (Unit × TS) :=
  ob (F_isBad σ) fun r165 s164 =>
  if r165 = 0 then
    ob (F_checkActions s164) fun r223 s222 =>
    J_makeFlat_517 s222
  else
    J_makeFlat_517 s164
def J_makeFlat_487 (σ : TS) : Option (Unit × TS) :=
  nm (tsI σ 144 (tI σ 143)) fun s159 =>
  ob (F_isBad s159) fun r161 s160 =>
  if r161 = 0 then
    ob (F_numberAll s160) fun r228 s227 =>
    J_makeFlat_506 s227
  else
    J_makeFlat_506 s160
def J_makeFlat_476 (σ : TS) : Option (Unit × TS) :=
  ob (F_isBad σ) fun r156 s155 =>
  if r156 = 0 then
    ob (F_connections s155) fun r233 s232 =>
    J_makeFlat_487 s232
  else
    J_makeFlat_487 s155
def J_makeFlat_464 (σ : TS) : Option (Unit × TS) :=
  ob (F_isBad σ) fun r152 s151 =>
  if r152 = 0 then
    ob (F_collect 0 s151) fun r238 s237 =>
    J_makeFlat_476 s237
  else
    J_makeFlat_476 s151
def J_makeFlat_387 (σ : TS) : Option (Unit × TS) :=
  ob (L_makeFlat_389 FU 0 σ) fun q148 s149 =>
  J_makeFlat_464 s149
def J_makeFlat_344 (σ : TS) : Option (Unit × TS) :=
  nm (tsI σ 138 0) fun s103 =>
  ob (L_makeFlat_351 FU 0 s103) fun q118 s119 =>
  J_makeFlat_387 s119
def J_makeFlat_202 (σ : TS) : Option (Unit × TS) :=
  ob (L_makeFlat_204 FU 0 σ) fun q61 s62 =>
  ob (L_makeFlat_226 FU 0 s62) fun q74 s75 =>
  nm (tsI s75 130 1) fun s77 =>
  nm (tsI s77 138 1) fun s78 =>
  ob (L_makeFlat_280 FU 0 s78) fun q100 s101 =>
  J_makeFlat_344 s101
def F_makeFlat (x1 : Int32) (σ : TS) : Option (Unit × TS) :=
  nm (tsI σ 82 1) fun s1 =>
  nm (tsI s1 89 0) fun s2 =>
  nm (tsI s2 93 0) fun s3 =>
  nm (tsI s3 107 0) fun s4 =>
  nm (tsI s4 114 0) fun s5 =>
  nm (tsI s5 113 0) fun s6 =>
  nm (tsI s6 117 0) fun s7 =>
  nm (tsI s7 137 0) fun s8 =>
  nm (tsI s8 140 0) fun s9 =>
  nm (tsI s9 126 1) fun s10 =>
  nm (tsI s10 132 0) fun s11 =>
  nm (tsI s11 161 0) fun s12 =>
  nm (tsI s12 133 0) fun s13 =>
  nm (tsI s13 127 0) fun s14 =>
  nm (tsI s14 129 1) fun s15 =>
  nm (tsI s15 138 0) fun s16 =>
  nm (tsI s16 143 0) fun s17 =>
  nm (tsI s17 148 0) fun s18 =>
  nm (tsI s18 152 0) fun s19 =>
  nm (tsI s19 154 0) fun s20 =>
  if inb 0 200 then
  nm (tsA s20 75 (ix 0) (-1)) fun s22 =>
  if inb 0 200 then
  nm (tsA s22 76 (ix 0) (-1)) fun s24 =>
  if inb 0 200 then
  nm (tsA s24 77 (ix 0) 0) fun s26 =>
  if inb 0 200 then
  nm (tsA s26 74 (ix 0) x1) fun s28 =>
  if inb 0 200 then
  nm (tsA s28 78 (ix 0) 0) fun s30 =>
  if inb 0 200 then
  nm (tsA s30 79 (ix 0) 0) fun s32 =>
  if inb 0 200 then
  nm (tsA s32 88 (ix 0) (-1)) fun s34 =>
  ob (F_fill 0 x1 1 s34) fun r36 s35 =>
  ob (L_makeFlat_158 FU 0 s35) fun q54 s55 =>
  J_makeFlat_202 s55
  else none
  else none
  else none
  else none
  else none
  else none
  else none
def F_flat (σ : TS) : Option (Int32 × TS) :=
  ob (F_takeTape σ) fun r2 s1 =>
  nm (tsI s1 0 0) fun s5 =>
  nm (tsI s5 108 0) fun s6 =>
  nm (tsI s6 109 0) fun s7 =>
  nm (tsI s7 110 0) fun s8 =>
  nm (tsI s8 111 0) fun s9 =>
  ob (F_theClass s9) fun r11 s10 =>
  if 0 ≤ r11 then
    ob (F_makeFlat r11 s10) fun r15 s14 =>
    ob (F_isBad s14) fun r19 s18 =>
    if r19 = 0 then
      nm (tsI s18 108 1) fun s22 =>
      some (tI s22 107, s22)
    else
      ob (F_faulted s18) fun r24 s23 =>
      some (r24, s23)
  else
    ob (F_bad 20 0 s10) fun r29 s28 =>
    ob (F_isBad s28) fun r33 s32 =>
    if r33 = 0 then
      nm (tsI s32 108 1) fun s36 =>
      some (tI s36 107, s36)
    else
      ob (F_faulted s32) fun r38 s37 =>
      some (r38, s37)
def B_hasHead (cf_hasHead : Int32 → Int32 → Int32 → TS → Option (Int32 × TS)) (x1 : Int32) (x2 : Int32) (x3 : Int32) (σ : TS) : Option (Int32 × TS) :=
  if inb x1 70000 then
  nm (tA σ 121 (ix x1)) fun v2 =>
  if v2 = 0 then
    some (0, σ)
  else
  if v2 = 1 then
    some (0, σ)
  else
  if v2 = 2 then
    if x3 = 0 then
      if inb x1 70000 then
      if inb (tA σ 122 (ix x1)) 96 then
      if tA σ 94 (ix (tA σ 122 (ix x1))) = 0 then
        if inb x1 70000 then
        if inb (tA σ 122 (ix x1)) 96 then
        if tA σ 177 (ix (tA σ 122 (ix x1))) = x2 then
          some (1, σ)
        else
          some (0, σ)
        else none
        else none
      else
        some (0, σ)
      else none
      else none
    else
      some (0, σ)
  else
  if v2 = 3 then
    if inb x1 70000 then
    if inb (tA σ 122 (ix x1)) 96 then
    if tA σ 177 (ix (tA σ 122 (ix x1))) = x2 then
      some (1, σ)
    else
      some (0, σ)
    else none
    else none
  else
  if v2 = 4 then
    some (0, σ)
  else
  if v2 = 5 then
    if inb x1 70000 then
    ob (cf_hasHead (tA σ 122 (ix x1)) x2 x3 σ) fun r21 s20 =>
    if r21 = 0 then
      if inb x1 70000 then
      ob (cf_hasHead (tA s20 123 (ix x1)) x2 x3 s20) fun r26 s25 =>
      if r26 = 0 then
        some (0, s25)
      else
        some (1, s25)
      else none
    else
      some (1, s20)
    else none
  else
  if v2 = 6 then
    if inb x1 70000 then
    ob (cf_hasHead (tA σ 122 (ix x1)) x2 x3 σ) fun r34 s33 =>
    if r34 = 0 then
      if inb x1 70000 then
      ob (cf_hasHead (tA s33 123 (ix x1)) x2 x3 s33) fun r39 s38 =>
      if r39 = 0 then
        some (0, s38)
      else
        some (1, s38)
      else none
    else
      some (1, s33)
    else none
  else
  if v2 = 7 then
    if inb x1 70000 then
    ob (cf_hasHead (tA σ 122 (ix x1)) x2 x3 σ) fun r47 s46 =>
    some (r47, s46)
    else none
  else
  if v2 = 8 then
    if inb x1 70000 then
    ob (cf_hasHead (tA σ 122 (ix x1)) x2 x3 σ) fun r53 s52 =>
    if r53 = 0 then
      if inb x1 70000 then
      ob (cf_hasHead (tA s52 123 (ix x1)) x2 x3 s52) fun r58 s57 =>
      if r58 = 0 then
        some (0, s57)
      else
        some (1, s57)
      else none
    else
      some (1, s52)
    else none
  else
  if v2 = 9 then
    if inb x1 70000 then
    ob (cf_hasHead (tA σ 122 (ix x1)) x2 x3 σ) fun r66 s65 =>
    if r66 = 0 then
      if inb x1 70000 then
      ob (cf_hasHead (tA s65 123 (ix x1)) x2 x3 s65) fun r71 s70 =>
      if r71 = 0 then
        some (0, s70)
      else
        some (1, s70)
      else none
    else
      some (1, s65)
    else none
  else
  if v2 = 10 then
    if inb x1 70000 then
    ob (cf_hasHead (tA σ 122 (ix x1)) x2 x3 σ) fun r79 s78 =>
    some (r79, s78)
    else none
  else
  if v2 = 11 then
    if inb x1 70000 then
    ob (cf_hasHead (tA σ 122 (ix x1)) x2 x3 σ) fun r85 s84 =>
    some (r85, s84)
    else none
  else
  if v2 = 12 then
    if inb x1 70000 then
    ob (cf_hasHead (tA σ 122 (ix x1)) x2 x3 σ) fun r91 s90 =>
    some (r91, s90)
    else none
  else
  if v2 = 13 then
    if inb x1 70000 then
    ob (cf_hasHead (tA σ 122 (ix x1)) x2 x3 σ) fun r97 s96 =>
    some (r97, s96)
    else none
  else
  if v2 = 14 then
    if inb x1 70000 then
    ob (cf_hasHead (tA σ 122 (ix x1)) x2 x3 σ) fun r103 s102 =>
    if r103 = 0 then
      if inb x1 70000 then
      ob (cf_hasHead (tA s102 123 (ix x1)) x2 x3 s102) fun r108 s107 =>
      if r108 = 0 then
        some (0, s107)
      else
        some (1, s107)
      else none
    else
      some (1, s102)
    else none
  else
  if v2 = 15 then
    if inb x1 70000 then
    ob (cf_hasHead (tA σ 122 (ix x1)) x2 x3 σ) fun r116 s115 =>
    if r116 = 0 then
      if inb x1 70000 then
      ob (cf_hasHead (tA s115 123 (ix x1)) x2 x3 s115) fun r121 s120 =>
      if r121 = 0 then
        some (0, s120)
      else
        some (1, s120)
      else none
    else
      some (1, s115)
    else none
  else
  if v2 = 16 then
    if inb x1 70000 then
    ob (cf_hasHead (tA σ 122 (ix x1)) x2 x3 σ) fun r129 s128 =>
    if r129 = 0 then
      if inb x1 70000 then
      ob (cf_hasHead (tA s128 123 (ix x1)) x2 x3 s128) fun r134 s133 =>
      if r134 = 0 then
        if inb x1 70000 then
        ob (cf_hasHead (tA s133 124 (ix x1)) x2 x3 s133) fun r139 s138 =>
        if r139 = 0 then
          some (0, s138)
        else
          some (1, s138)
        else none
      else
        some (1, s133)
      else none
    else
      some (1, s128)
    else none
  else
  if v2 = 17 then
    if inb x1 70000 then
    ob (cf_hasHead (tA σ 122 (ix x1)) x2 x3 σ) fun r148 s147 =>
    if r148 = 0 then
      if inb x1 70000 then
      ob (cf_hasHead (tA s147 123 (ix x1)) x2 x3 s147) fun r153 s152 =>
      if r153 = 0 then
        some (0, s152)
      else
        some (1, s152)
      else none
    else
      some (1, s147)
    else none
  else
  if v2 = 18 then
    if inb x1 70000 then
    ob (cf_hasHead (tA σ 122 (ix x1)) x2 x3 σ) fun r161 s160 =>
    if r161 = 0 then
      if inb x1 70000 then
      ob (cf_hasHead (tA s160 123 (ix x1)) x2 x3 s160) fun r166 s165 =>
      if r166 = 0 then
        some (0, s165)
      else
        some (1, s165)
      else none
    else
      some (1, s160)
    else none
  else
  if v2 = 19 then
    if inb x1 70000 then
    ob (cf_hasHead (tA σ 122 (ix x1)) x2 x3 σ) fun r174 s173 =>
    if r174 = 0 then
      if inb x1 70000 then
      ob (cf_hasHead (tA s173 123 (ix x1)) x2 x3 s173) fun r179 s178 =>
      if r179 = 0 then
        some (0, s178)
      else
        some (1, s178)
      else none
    else
      some (1, s173)
    else none
  else
  if v2 = 20 then
    if inb x1 70000 then
    ob (cf_hasHead (tA σ 123 (ix x1)) x2 x3 σ) fun r187 s186 =>
    if r187 = 0 then
      if inb x1 70000 then
      ob (cf_hasHead (tA s186 124 (ix x1)) x2 x3 s186) fun r192 s191 =>
      if r192 = 0 then
        some (0, s191)
      else
        some (1, s191)
      else none
    else
      some (1, s186)
    else none
  else
  if v2 = 21 then
    if inb x1 70000 then
    ob (cf_hasHead (tA σ 122 (ix x1)) x2 x3 σ) fun r200 s199 =>
    if r200 = 0 then
      if inb x1 70000 then
      ob (cf_hasHead (tA s199 123 (ix x1)) x2 x3 s199) fun r205 s204 =>
      if r205 = 0 then
        some (0, s204)
      else
        some (1, s204)
      else none
    else
      some (1, s199)
    else none
  else
  if v2 = 22 then
    if inb x1 70000 then
    ob (cf_hasHead (tA σ 122 (ix x1)) x2 x3 σ) fun r213 s212 =>
    if r213 = 0 then
      if inb x1 70000 then
      ob (cf_hasHead (tA s212 123 (ix x1)) x2 x3 s212) fun r218 s217 =>
      if r218 = 0 then
        some (0, s217)
      else
        some (1, s217)
      else none
    else
      some (1, s212)
    else none
  else
  if v2 = 23 then
    if inb x1 70000 then
    ob (cf_hasHead (tA σ 122 (ix x1)) x2 x3 σ) fun r226 s225 =>
    some (r226, s225)
    else none
  else
  if v2 = 24 then
    some (0, σ)
  else
  if v2 = 25 then
    if inb x1 70000 then
    ob (cf_hasHead (tA σ 123 (ix x1)) x2 x3 σ) fun r233 s232 =>
    if r233 = 0 then
      if inb x1 70000 then
      ob (cf_hasHead (tA s232 124 (ix x1)) x2 x3 s232) fun r238 s237 =>
      if r238 = 0 then
        some (0, s237)
      else
        some (1, s237)
      else none
    else
      some (1, s232)
    else none
  else
  if v2 = 26 then
    if inb x1 70000 then
    ob (cf_hasHead (tA σ 122 (ix x1)) x2 x3 σ) fun r246 s245 =>
    if r246 = 0 then
      if inb x1 70000 then
      ob (cf_hasHead (tA s245 123 (ix x1)) x2 x3 s245) fun r251 s250 =>
      if r251 = 0 then
        some (0, s250)
      else
        some (1, s250)
      else none
    else
      some (1, s245)
    else none
  else
  if v2 = 27 then
    if inb x1 70000 then
    ob (cf_hasHead (tA σ 122 (ix x1)) x2 x3 σ) fun r259 s258 =>
    if r259 = 0 then
      if inb x1 70000 then
      ob (cf_hasHead (tA s258 123 (ix x1)) x2 x3 s258) fun r264 s263 =>
      if r264 = 0 then
        some (0, s263)
      else
        some (1, s263)
      else none
    else
      some (1, s258)
    else none
  else
  if v2 = 28 then
    if inb x1 70000 then
    ob (cf_hasHead (tA σ 122 (ix x1)) x2 x3 σ) fun r272 s271 =>
    if r272 = 0 then
      if inb x1 70000 then
      ob (cf_hasHead (tA s271 123 (ix x1)) x2 x3 s271) fun r277 s276 =>
      if r277 = 0 then
        some (0, s276)
      else
        some (1, s276)
      else none
    else
      some (1, s271)
    else none
  else
  if v2 = 29 then
    if inb x1 70000 then
    ob (cf_hasHead (tA σ 122 (ix x1)) x2 x3 σ) fun r285 s284 =>
    if r285 = 0 then
      if inb x1 70000 then
      ob (cf_hasHead (tA s284 123 (ix x1)) x2 x3 s284) fun r290 s289 =>
      if r290 = 0 then
        some (0, s289)
      else
        some (1, s289)
      else none
    else
      some (1, s284)
    else none
  else
  if v2 = 30 then
    some (0, σ)
  else
  if inb x1 70000 then
  ob (cf_hasHead (tA σ 122 (ix x1)) x2 x3 σ) fun r298 s297 =>
  if r298 = 0 then
    if inb x1 70000 then
    ob (cf_hasHead (tA s297 123 (ix x1)) x2 x3 s297) fun r303 s302 =>
    if r303 = 0 then
      some (0, s302)
    else
      some (1, s302)
    else none
  else
    some (1, s297)
  else none
  else none
def G_hasHead : Nat → (Int32 → Int32 → Int32 → TS → Option (Int32 × TS))
  | 0 => (fun _ _ _ _ => none)
  | d + 1 => (B_hasHead (G_hasHead d))
def F_hasHead : Int32 → Int32 → Int32 → TS → Option (Int32 × TS) := (G_hasHead 300)
def L_init_2_52 : Nat → Int32 → TS → Option (Unit × TS)
  | 0, _, _ => none
  | n + 1, x1, σ =>
    if tI σ 197 ≤ x1 then
      some ((), σ)
    else
      if inb x1 200 then
      if tA σ 188 (ix x1) = 0 then
        if inb x1 200 then
        if inb (tA σ 187 (ix x1)) 96 then
        if inb x1 200 then
        nm (tsA σ 166 (ix x1) (tA σ 105 (ix (tA σ 187 (ix x1))))) fun s20 =>
        if inb x1 200 then
        if inb x1 200 then
        nm (tsA s20 167 (ix x1) (tA s20 166 (ix x1))) fun s23 =>
        nm (x1 + 1) fun v24 =>
        L_init_2_52 n v24 s23
        else none
        else none
        else none
        else none
        else none
      else
        if inb x1 200 then
        nm (tsA σ 166 (ix x1) 0) fun s12 =>
        if inb x1 200 then
        if inb x1 200 then
        nm (tsA s12 167 (ix x1) (tA s12 166 (ix x1))) fun s15 =>
        nm (x1 + 1) fun v16 =>
        L_init_2_52 n v16 s15
        else none
        else none
        else none
      else none
def L_init_2_110 : Nat → Int32 → TS → Option (Unit × TS)
  | 0, _, _ => none
  | n + 1, x1, σ =>
    if tI σ 107 ≤ x1 then
      some ((), σ)
    else
      if inb x1 96 then
      if inb x1 96 then
      nm (tsA σ 168 (ix x1) (tA σ 105 (ix x1))) fun s32 =>
      if inb x1 96 then
      if inb x1 96 then
      nm (tsA s32 169 (ix x1) (tA s32 168 (ix x1))) fun s35 =>
      nm (x1 + 1) fun v36 =>
      L_init_2_110 n v36 s35
      else none
      else none
      else none
      else none
def L_init_2_150 : Nat → Int32 → TS → Option (Unit × TS)
  | 0, _, _ => none
  | n + 1, x1, σ =>
    if tI σ 154 ≤ x1 then
      some ((), σ)
    else
      if inb x1 24 then
      nm (tsA σ 163 (ix x1) (nZ 0)) fun s42 =>
      nm (x1 + 1) fun v43 =>
      L_init_2_150 n v43 s42
      else none
def L_init_2_173 : Nat → Int32 → TS → Option (Unit × TS)
  | 0, _, _ => none
  | n + 1, x1, σ =>
    if tI σ 148 ≤ x1 then
      some ((), σ)
    else
      if inb x1 12 then
      nm (tsA σ 235 (ix x1) (nZ 0)) fun s49 =>
      nm (x1 + 1) fun v50 =>
      L_init_2_173 n v50 s49
      else none
def F_init_2 (σ : TS) : Option (Int32 × TS) :=
  if tI σ 109 = 0 then
    some ((-4), σ)
  else
    nm (tsI σ 0 0) fun s2 =>
    nm (tsI s2 110 0) fun s3 =>
    nm (tsI s3 111 0) fun s4 =>
    nm (tsI s4 165 0) fun s5 =>
    nm (tsI s5 222 0) fun s6 =>
    nm (tsI s6 237 0) fun s7 =>
    nm (tsI s7 238 0) fun s8 =>
    nm (tsI s8 239 0) fun s9 =>
    ob (L_init_2_52 FU 0 s9) fun q27 s28 =>
    ob (L_init_2_110 FU 0 s28) fun q38 s39 =>
    ob (L_init_2_150 FU 0 s39) fun q45 s46 =>
    ob (L_init_2_173 FU 0 s46) fun q52 s53 =>
    ob (F_event 1 s53) fun r56 s55 =>
    ob (F_isBad s55) fun r60 s59 =>
    if r60 = 0 then
      nm (tsI s59 110 1) fun s63 =>
      some (0, s63)
    else
      ob (F_faulted s59) fun r65 s64 =>
      some (r65, s64)
def L_isSomewhere_2 : Nat → Int32 → Int32 → Int32 → TS → Option ((Unit ⊕ Int32) × TS)
  | 0, _, _, _, _ => none
  | n + 1, x1, x2, x3, σ =>
    if tI σ 144 ≤ x3 then
      some (.inl (), σ)
    else
      if inb x3 400 then
      if tA σ 180 (ix x3) = 0 then
        if inb x3 400 then
        ob (F_hasHead (tA σ 141 (ix x3)) x1 x2 σ) fun r6 s5 =>
        if r6 = 0 then
          if inb x3 400 then
          ob (F_hasHead (tA s5 142 (ix x3)) x1 x2 s5) fun r11 s10 =>
          if r11 = 0 then
            nm (x3 + 1) fun v14 =>
            L_isSomewhere_2 n x1 x2 v14 s10
          else
            some (.inr 1, s10)
          else none
        else
          some (.inr 1, s5)
        else none
      else
        nm (x3 + 1) fun v3 =>
        L_isSomewhere_2 n x1 x2 v3 σ
      else none
def F_isSomewhere (x1 : Int32) (x2 : Int32) (σ : TS) : Option (Int32 × TS) :=
  obS (L_isSomewhere_2 FU x1 x2 0 σ) (fun r23 s20 => some (r23, s20)) fun q19 s20 =>
  some (0, s20)
def F_isUnlike (x1 : Int64) (x3 : Int64) (σ : TS) : Option (Int32 × TS) :=
  ob (F_alike x1 x3 σ) fun r2 s1 =>
  if lg_cmp r2 (-1) = 0 then
    some (1, s1)
  else
    some (0, s1)
def F_tell (x1 : Int32) (σ : TS) : Option (Unit × TS) :=
  if tI σ 173 = 0 then
    nm (tsI σ 172 x1) fun s2 =>
    nm (tsI s2 173 ((tI s2 173) + 1)) fun s3 =>
    some ((), s3)
  else
    nm (tsI σ 173 ((tI σ 173) + 1)) fun s1 =>
    some ((), s1)
def L_judge_22 : Nat → Int32 → TS → Option (Unit × TS)
  | 0, _, _ => none
  | n + 1, x1, σ =>
    if tI σ 144 ≤ x1 then
      some ((), σ)
    else
      if inb x1 120 then
      ob (F_unit (tA σ 174 (ix x1)) σ) fun r6 s5 =>
      if inb x1 120 then
      ob (F_unit (tA s5 175 (ix x1)) s5) fun r11 s10 =>
      ob (F_isUnlike r6 r11 s10) fun r15 s14 =>
      if r15 = 0 then
        nm (x1 + 1) fun v18 =>
        L_judge_22 n v18 s14
      else
        ob (F_tell x1 s14) fun r20 s19 =>
        nm (x1 + 1) fun v23 =>
        L_judge_22 n v23 s19
      else none
      else none
def L_judge_87 : Nat → Int32 → Int32 → Int32 → TS → Option (Int32 × TS)
  | 0, _, _, _, _ => none
  | n + 1, x1, x2, x3, σ =>
    if inb x2 12 then
    if inb x2 12 then
    if (tA σ 146 (ix x2)) + (tA σ 147 (ix x2)) ≤ x3 then
      some (x1, σ)
    else
      if inb x3 200 then
      ob (F_unitOf (tA σ 150 (ix x3)) σ) fun r35 s34 =>
      if inb x3 200 then
      ob (F_unit (tA s34 151 (ix x3)) s34) fun r40 s39 =>
      ob (F_isUnlike r35 r40 s39) fun r44 s43 =>
      if r44 = 0 then
        nm (x1 + 1) fun v47 =>
        nm (x3 + 1) fun v48 =>
        L_judge_87 n v47 x2 v48 s43
      else
        ob (F_tell (1000 + x1) s43) fun r50 s49 =>
        nm (x1 + 1) fun v53 =>
        nm (x3 + 1) fun v54 =>
        L_judge_87 n v53 x2 v54 s49
      else none
      else none
    else none
    else none
def L_judge_72 : Nat → Int32 → Int32 → TS → Option (Unit × TS)
  | 0, _, _, _ => none
  | n + 1, x1, x2, σ =>
    if tI σ 148 ≤ x2 then
      some ((), σ)
    else
      if inb x2 12 then
      nm (tA σ 146 (ix x2)) fun v30 =>
      ob (L_judge_87 FU x1 x2 v30 σ) fun q57 s58 =>
      nm (x2 + 1) fun v60 =>
      L_judge_72 n q57 v60 s58
      else none
def L_judge_157 : Nat → Int32 → TS → Option (Unit × TS)
  | 0, _, _ => none
  | n + 1, x2, σ =>
    if tI σ 154 ≤ x2 then
      some ((), σ)
    else
      if inb x2 24 then
      if inb (tA σ 153 (ix x2)) 70000 then
      if tA σ 121 (ix (tA σ 153 (ix x2))) = 20 then
        if inb x2 24 then
        if inb (tA σ 153 (ix x2)) 70000 then
        ob (F_unit (tA σ 123 (ix (tA σ 153 (ix x2)))) σ) fun r72 s71 =>
        if inb x2 24 then
        if inb (tA s71 153 (ix x2)) 70000 then
        ob (F_unit (tA s71 124 (ix (tA s71 153 (ix x2)))) s71) fun r78 s77 =>
        ob (F_isUnlike r72 r78 s77) fun r82 s81 =>
        if r82 = 0 then
          nm (x2 + 1) fun v85 =>
          L_judge_157 n v85 s81
        else
          ob (F_tell (2000 + x2) s81) fun r87 s86 =>
          nm (x2 + 1) fun v90 =>
          L_judge_157 n v90 s86
        else none
        else none
        else none
        else none
      else
        nm (x2 + 1) fun v68 =>
        L_judge_157 n v68 σ
      else none
      else none
def L_judge_235 : Nat → Int32 → TS → Option (Unit × TS)
  | 0, _, _ => none
  | n + 1, x2, σ =>
    if tI σ 107 ≤ x2 then
      some ((), σ)
    else
      if inb x2 96 then
      if tA σ 94 (ix x2) = 1 then
        if inb x2 96 then
        if tA σ 158 (ix x2) = 0 then
          nm (x2 + 1) fun v100 =>
          L_judge_235 n v100 σ
        else
          ob (F_unitOf x2 σ) fun r102 s101 =>
          if inb x2 96 then
          ob (F_unit (tA s101 158 (ix x2)) s101) fun r107 s106 =>
          ob (F_isUnlike r102 r107 s106) fun r111 s110 =>
          if r111 = 0 then
            nm (x2 + 1) fun v114 =>
            L_judge_235 n v114 s110
          else
            ob (F_tell (3000 + x2) s110) fun r116 s115 =>
            nm (x2 + 1) fun v119 =>
            L_judge_235 n v119 s115
          else none
        else none
      else
        nm (x2 + 1) fun v98 =>
        L_judge_235 n v98 σ
      else none
def L_judge_301 : Nat → Int32 → TS → Option (Unit × TS)
  | 0, _, _ => none
  | n + 1, x2, σ =>
    if tI σ 107 ≤ x2 then
      some ((), σ)
    else
      if inb x2 96 then
      if tA σ 159 (ix x2) = 0 then
        nm (x2 + 1) fun v128 =>
        L_judge_301 n v128 σ
      else
        ob (F_unitOf x2 σ) fun r130 s129 =>
        if inb x2 96 then
        ob (F_unit (tA s129 159 (ix x2)) s129) fun r135 s134 =>
        ob (F_isUnlike r130 r135 s134) fun r139 s138 =>
        if r139 = 0 then
          nm (x2 + 1) fun v142 =>
          L_judge_301 n v142 s138
        else
          ob (F_tell (4000 + x2) s138) fun r144 s143 =>
          nm (x2 + 1) fun v147 =>
          L_judge_301 n v147 s143
        else none
      else none
def F_judge (σ : TS) : Option (Int32 × TS) :=
  if tI σ 108 = 0 then
    some ((-4), σ)
  else
    nm (tsI σ 172 0) fun s2 =>
    nm (tsI s2 173 0) fun s3 =>
    ob (L_judge_22 FU 0 s3) fun q26 s27 =>
    ob (L_judge_72 FU 0 0 s27) fun q63 s64 =>
    ob (L_judge_157 FU 0 s64) fun q94 s95 =>
    ob (L_judge_235 FU 0 s95) fun q124 s125 =>
    ob (L_judge_301 FU 0 s125) fun q151 s152 =>
    if tI s152 173 = 0 then
      some (0, s152)
    else
      some (1 + (tI s152 172), s152)
def L_keep_12 : Nat → Int32 → Int32 → TS → Option (Unit × TS)
  | 0, _, _, _ => none
  | n + 1, x1, x2, σ =>
    if tI σ 197 ≤ x2 then
      some ((), σ)
    else
      if inb x2 200 then
      if inb ((x1 * 200) + x2) 400 then
      nm (tsA σ 228 (ix ((x1 * 200) + x2)) (tA σ 166 (ix x2))) fun s5 =>
      if inb x2 200 then
      if inb ((x1 * 200) + x2) 400 then
      nm (tsA s5 229 (ix ((x1 * 200) + x2)) (tA s5 167 (ix x2))) fun s8 =>
      nm (x2 + 1) fun v9 =>
      L_keep_12 n x1 v9 s8
      else none
      else none
      else none
      else none
def L_keep_64 : Nat → Int32 → Int32 → TS → Option (Unit × TS)
  | 0, _, _, _ => none
  | n + 1, x1, x2, σ =>
    if tI σ 107 ≤ x2 then
      some ((), σ)
    else
      if inb x2 96 then
      if inb ((x1 * 96) + x2) 192 then
      nm (tsA σ 230 (ix ((x1 * 96) + x2)) (tA σ 168 (ix x2))) fun s16 =>
      if inb x2 96 then
      if inb ((x1 * 96) + x2) 192 then
      nm (tsA s16 231 (ix ((x1 * 96) + x2)) (tA s16 169 (ix x2))) fun s19 =>
      nm (x2 + 1) fun v20 =>
      L_keep_64 n x1 v20 s19
      else none
      else none
      else none
      else none
def L_keep_114 : Nat → Int32 → Int32 → TS → Option (Unit × TS)
  | 0, _, _, _ => none
  | n + 1, x1, x2, σ =>
    if tI σ 154 ≤ x2 then
      some ((), σ)
    else
      if inb x2 24 then
      if inb ((x1 * 24) + x2) 48 then
      nm (tsA σ 233 (ix ((x1 * 24) + x2)) (nZ (tA σ 163 (ix x2)))) fun s28 =>
      nm (x2 + 1) fun v29 =>
      L_keep_114 n x1 v29 s28
      else none
      else none
def L_keep_147 : Nat → Int32 → Int32 → TS → Option (Unit × TS)
  | 0, _, _, _ => none
  | n + 1, x1, x2, σ =>
    if tI σ 148 ≤ x2 then
      some ((), σ)
    else
      if inb x2 12 then
      if inb ((x1 * 12) + x2) 24 then
      nm (tsA σ 234 (ix ((x1 * 12) + x2)) (nZ (tA σ 235 (ix x2)))) fun s37 =>
      nm (x2 + 1) fun v38 =>
      L_keep_147 n x1 v38 s37
      else none
      else none
def F_keep (x1 : Int32) (σ : TS) : Option (Unit × TS) :=
  if inb x1 2 then
  nm (tsA σ 232 (ix x1) (tI σ 165)) fun s2 =>
  ob (L_keep_12 FU x1 0 s2) fun q11 s12 =>
  ob (L_keep_64 FU x1 0 s12) fun q22 s23 =>
  ob (L_keep_114 FU x1 0 s23) fun q31 s32 =>
  ob (L_keep_147 FU x1 0 s32) fun q40 s41 =>
  some ((), s41)
  else none
def J_slope_64 (x1 : Int32) (x3 : Int32) (σ : TS) : Option (Int32 × TS) :=
  if inb x1 200 then
  if inb (tA σ 207 (ix x1)) 200 then
  if inb (tA σ 189 (ix (tA σ 207 (ix x1)))) 200 then
  nm (tA σ 166 (ix (tA σ 189 (ix (tA σ 207 (ix x1)))))) fun v25 =>
  ob (F_isBad σ) fun r27 s26 =>
  if r27 = 0 then
    ob (F_fit (((v25).toInt64) - ((x3).toInt64)) s26) fun r31 s30 =>
    ob (F_back 1 s30) fun r35 s34 =>
    ob (F_isBad s34) fun r39 s38 =>
    if r39 = 0 then
      ob (F_times r31 67108864 s38) fun r43 s42 =>
      some (r43, s42)
    else
      some (0, s38)
  else
    ob (F_back 1 s26) fun r48 s47 =>
    ob (F_isBad s47) fun r52 s51 =>
    if r52 = 0 then
      ob (F_times 0 67108864 s51) fun r56 s55 =>
      some (r56, s55)
    else
      some (0, s51)
  else none
  else none
  else none
def F_slope (x1 : Int32) (x2 : Int32) (σ : TS) : Option (Int32 × TS) :=
  ob (F_keep 1 σ) fun r2 s1 =>
  if inb x1 200 then
  if inb (tA s1 207 (ix x1)) 200 then
  if inb (tA s1 189 (ix (tA s1 207 (ix x1)))) 200 then
  nm (tA s1 166 (ix (tA s1 189 (ix (tA s1 207 (ix x1)))))) fun v8 =>
  if inb x2 200 then
  if inb x2 200 then
  if inb (tA s1 207 (ix x2)) 200 then
  ob (F_fit (((tA s1 166 (ix (tA s1 207 (ix x2)))).toInt64) + 64) s1) fun r13 s12 =>
  if inb (tA s1 207 (ix x2)) 200 then
  nm (tsA s12 166 (ix (tA s1 207 (ix x2))) r13) fun s17 =>
  ob (F_isBad s17) fun r19 s18 =>
  if r19 = 0 then
    ob (F_solveBlocks s18) fun r62 s61 =>
    J_slope_64 x1 v8 s61
  else
    J_slope_64 x1 v8 s18
  else none
  else none
  else none
  else none
  else none
  else none
  else none
def F_linear (x1 : Int32) (x2 : Int32) (σ : TS) : Option (Int64 × TS) :=
  if tI σ 110 = 0 then
    some ((-4294967300), σ)
  else
    if tI σ 111 = 0 then
      if x1 < 0 then
        some ((-4294967298), σ)
      else
        if tI σ 198 ≤ x1 then
          some ((-4294967298), σ)
        else
          if x2 < 0 then
            some ((-4294967298), σ)
          else
            if x2 < tI σ 198 then
              nm (tsI σ 0 0) fun s3 =>
              nm (tI s3 222) fun v4 =>
              ob (F_slope x1 x2 s3) fun r6 s5 =>
              nm (tsI s5 222 v4) fun s9 =>
              ob (F_isBad s9) fun r11 s10 =>
              if r11 = 0 then
                some ((r6).toInt64, s10)
              else
                ob (F_faulted s10) fun r15 s14 =>
                some (((r15).toInt64) - 4294967296, s14)
            else
              some ((-4294967298), σ)
    else
      some ((-4294967300), σ)
def F_newName (σ : TS) : Option (Int64 × TS) :=
  nm (tI σ 12) fun v1 =>
  nm (tI σ 11) fun v2 =>
  ob (F_passName σ) fun r4 s3 =>
  ob (F_isBad s3) fun r8 s7 =>
  if r8 = 0 then
    ob (F_function r4 s7) fun r12 s11 =>
    if 0 ≤ r12 then
      ob (F_bad 3 v1 s11) fun r16 s15 =>
      some (r4, s15)
    else
      ob (F_classOf r4 s11) fun r20 s19 =>
      if r20 < 0 then
        some (r4, s19)
      else
        ob (F_bad 3 v1 s19) fun r24 s23 =>
        some (r4, s23)
  else
    some (0, s7)
def L_readFunction_53 : Nat → Int64 → TS → Option (Unit × TS)
  | 0, _, _ => none
  | n + 1, x3, σ =>
    ob (F_isBad σ) fun r21 s20 =>
    if r21 = 0 then
      nm (tI s20 12) fun v24 =>
      ob (F_passName s20) fun r26 s25 =>
      ob (F_isBad s25) fun r30 s29 =>
      if r30 = 0 then
        ob (F_formal r26 s29) fun r34 s33 =>
        if r34 < 0 then
          if tI s33 38 = 4 then
            ob (F_bad 2 v24 s33) fun r55 s54 =>
            some ((), s54)
          else
            if inb (tI s33 38) 4 then
            nm (tsB s33 36 (ix (tI s33 38)) r26) fun s38 =>
            nm (tsI s38 38 ((tI s38 38) + 1)) fun s39 =>
            ob (F_isSign 44 s39) fun r41 s40 =>
            if r41 = 0 then
              some ((), s40)
            else
              if tI s40 38 = 4 then
                ob (F_cantStand s40) fun r49 s48 =>
                some ((), s48)
              else
                ob (F_next s40) fun r45 s44 =>
                L_readFunction_53 n x3 s44
            else none
        else
          ob (F_bad 3 v24 s33) fun r60 s59 =>
          some ((), s59)
      else
        some ((), s29)
    else
      some ((), s20)
def J_readFunction_174 (x3 : Int64) (σ : TS) : Option (Unit × TS) :=
  ob (F_pass 41 σ) fun r70 s69 =>
  ob (F_pass 61 s69) fun r74 s73 =>
  nm (tsI s73 39 1) fun s77 =>
  ob (F_expression s77) fun r79 s78 =>
  nm (tsI s78 39 0) fun s82 =>
  ob (F_pass 59 s82) fun r84 s83 =>
  ob (F_isBad s83) fun r88 s87 =>
  if r88 = 0 then
    if inb (tI s87 48) 12 then
    nm (tsB s87 40 (ix (tI s87 48)) x3) fun s92 =>
    if inb (tI s92 48) 12 then
    nm (tsA s92 42 (ix (tI s92 48)) (tI s92 38)) fun s94 =>
    if inb (tI s94 48) 12 then
    nm (tsA s94 43 (ix (tI s94 48)) r79) fun s96 =>
    nm (tsI s96 48 ((tI s96 48) + 1)) fun s97 =>
    nm (tsI s97 38 0) fun s98 =>
    some ((), s98)
    else none
    else none
    else none
  else
    some ((), s87)
def J_readFunction_42 (x3 : Int64) (σ : TS) : Option (Unit × TS) :=
  nm (tsI σ 38 0) fun s15 =>
  ob (F_pass 40 s15) fun r17 s16 =>
  ob (L_readFunction_53 FU x3 s16) fun q66 s67 =>
  J_readFunction_174 x3 s67
def F_readFunction (σ : TS) : Option (Unit × TS) :=
  nm (tI σ 12) fun v1 =>
  ob (F_next σ) fun r3 s2 =>
  nm (tI s2 12) fun v6 =>
  ob (F_newName s2) fun r8 s7 =>
  ob (F_isBad s7) fun r12 s11 =>
  if r12 = 0 then
    if tI s11 48 = 12 then
      ob (F_bad 7 v6 s11) fun r102 s101 =>
      J_readFunction_42 r8 s101
    else
      J_readFunction_42 r8 s11
  else
    J_readFunction_42 r8 s11
def L_readClass_125 : Nat → Int32 → Int32 → TS → Option (Unit × TS)
  | 0, _, _, _ => none
  | n + 1, x1, x5, σ =>
    ob (F_isBad σ) fun r36 s35 =>
    if r36 = 0 then
      ob (F_isWord 6647396 s35) fun r40 s39 =>
      if r40 = 0 then
        if x1 = 0 then
          ob (F_isWord 7309752731624370030 s39) fun r48 s47 =>
          if r48 = 0 then
            ob (F_element x5 s47) fun r52 s51 =>
            L_readClass_125 n x1 x5 s51
          else
            some ((), s47)
        else
          ob (F_element x5 s39) fun r44 s43 =>
          L_readClass_125 n x1 x5 s43
      else
        some ((), s39)
    else
      some ((), s35)
def J_readClass_165 (x5 : Int32) (σ : TS) : Option (Unit × TS) :=
  ob (F_isBad σ) fun r63 s62 =>
  if r63 = 0 then
    ob (F_isWord 7309752731624370030 s62) fun r75 s74 =>
    if r75 = 0 then
      ob (F_passWord 6647396 s74) fun r79 s78 =>
      ob (F_pass 59 s78) fun r83 s82 =>
      some ((), s82)
    else
      ob (F_next s74) fun r87 s86 =>
      ob (F_equations 1 s86) fun r91 s90 =>
      if inb x5 24 then
      nm (tsA s90 47 (ix x5) r91) fun s95 =>
      ob (F_passWord 6647396 s95) fun r97 s96 =>
      ob (F_pass 59 s96) fun r101 s100 =>
      some ((), s100)
      else none
  else
    ob (F_passWord 6647396 s62) fun r67 s66 =>
    ob (F_pass 59 s66) fun r71 s70 =>
    some ((), s70)
def J_readClass_53 (x1 : Int32) (x3 : Int64) (σ : TS) : Option (Unit × TS) :=
  ob (F_isBad σ) fun r19 s18 =>
  if r19 = 0 then
    nm (tI s18 49) fun v22 =>
    if inb v22 24 then
    nm (tsB s18 41 (ix v22) x3) fun s24 =>
    if inb v22 24 then
    nm (tsA s24 44 (ix v22) x1) fun s26 =>
    if inb v22 24 then
    nm (tsA s26 45 (ix v22) (tI s26 58)) fun s28 =>
    if inb v22 24 then
    nm (tsA s28 46 (ix v22) 0) fun s30 =>
    if inb v22 24 then
    nm (tsA s30 47 (ix v22) 0) fun s32 =>
    nm (tsI s32 73 0) fun s33 =>
    nm (tsI s33 49 ((tI s33 49) + 1)) fun s34 =>
    ob (L_readClass_125 FU x1 v22 s34) fun q59 s60 =>
    J_readClass_165 v22 s60
    else none
    else none
    else none
    else none
    else none
  else
    some ((), s18)
def J_readClass_15 (y0 : Int32) (σ : TS) : Option (Unit × TS) :=
  ob (F_next σ) fun r6 s5 =>
  nm (tI s5 12) fun v9 =>
  ob (F_newName s5) fun r11 s10 =>
  ob (F_isBad s10) fun r15 s14 =>
  if r15 = 0 then
    if tI s14 49 = 24 then
      ob (F_bad 7 v9 s14) fun r109 s108 =>
      J_readClass_53 y0 r11 s108
    else
      J_readClass_53 y0 r11 s14
  else
    J_readClass_53 y0 r11 s14
def F_readClass (σ : TS) : Option (Unit × TS) :=
  ob (F_isWord 470020285804 σ) fun r2 s1 =>
  if r2 = 0 then
    J_readClass_15 1 s1
  else
    J_readClass_15 0 s1
def L_load_82 : Nat → Int32 → Int32 → Int32 → Int32 → Int32 → Int32 → Int32 → TS → Option (Unit × TS)
  | 0, _, _, _, _, _, _, _, _ => none
  | n + 1, x1, x2, x3, x4, x5, x6, x7, σ =>
    ob (F_isBad σ) fun r24 s23 =>
    if r24 = 0 then
      if tI s23 11 = 0 then
        some ((), s23)
      else
        ob (F_isWord 7382928537577680750 s23) fun r28 s27 =>
        if r28 = 0 then
          ob (F_isWord 470020285804 s27) fun r32 s31 =>
          if r32 = 0 then
            ob (F_isWord (-10) s31) fun r40 s39 =>
            if r40 = 0 then
              ob (F_cantStand s39) fun r44 s43 =>
              L_load_82 n x1 x2 x3 x4 x5 x6 x7 s43
            else
              ob (F_readClass s39) fun r48 s47 =>
              L_load_82 n x1 x2 x3 x4 x5 x6 x7 s47
          else
            ob (F_readClass s31) fun r36 s35 =>
            L_load_82 n x1 x2 x3 x4 x5 x6 x7 s35
        else
          ob (F_readFunction s27) fun r54 s53 =>
          L_load_82 n x1 x2 x3 x4 x5 x6 x7 s53
    else
      some ((), s23)
def J_load_181 (x1 : Int32) (x2 : Int32) (x3 : Int32) (x4 : Int32) (x5 : Int32) (x6 : Int32) (x7 : Int32) (σ : TS) : Option (Int32 × TS) :=
  ob (F_isBad σ) fun r68 s67 =>
  if r68 = 0 then
    nm (tsI s67 19 ((tI s67 19) + ((tI s67 18) - 1))) fun s71 =>
    some ((tI s71 49) + (tI s71 48), s71)
  else
    nm (tsI s67 28 x1) fun s72 =>
    nm (tsI s72 34 x2) fun s73 =>
    nm (tsI s73 48 x3) fun s74 =>
    nm (tsI s74 49 x4) fun s75 =>
    nm (tsI s75 58 x5) fun s76 =>
    nm (tsI s76 65 x6) fun s77 =>
    nm (tsI s77 72 x7) fun s78 =>
    ob (F_faulted s78) fun r80 s79 =>
    some (r80, s79)
def J_load_147 (x1 : Int32) (x2 : Int32) (x3 : Int32) (x4 : Int32) (x5 : Int32) (x6 : Int32) (x7 : Int32) (σ : TS) : Option (Int32 × TS) :=
  ob (F_isBad σ) fun r64 s63 =>
  if r64 = 0 then
    if ((tI s63 19) + (tI s63 18)) - 1 ≤ 6000 then
      J_load_181 x1 x2 x3 x4 x5 x6 x7 s63
    else
      ob (F_bad 7 (tI s63 21) s63) fun r85 s84 =>
      J_load_181 x1 x2 x3 x4 x5 x6 x7 s84
  else
    J_load_181 x1 x2 x3 x4 x5 x6 x7 s63
def F_load (σ : TS) : Option (Int32 × TS) :=
  ob (F_takeTape σ) fun r2 s1 =>
  nm (tsI s1 0 0) fun s5 =>
  nm (tsI s5 10 0) fun s6 =>
  nm (tsI s6 18 0) fun s7 =>
  nm (tsI s7 20 0) fun s8 =>
  nm (tsI s8 37 0) fun s9 =>
  nm (tsI s9 38 0) fun s10 =>
  nm (tsI s10 39 0) fun s11 =>
  nm (tI s11 28) fun v12 =>
  nm (tI s11 34) fun v13 =>
  nm (tI s11 48) fun v14 =>
  nm (tI s11 49) fun v15 =>
  nm (tI s11 58) fun v16 =>
  nm (tI s11 65) fun v17 =>
  nm (tI s11 72) fun v18 =>
  ob (F_next s11) fun r20 s19 =>
  ob (L_load_82 FU v12 v13 v14 v15 v16 v17 v18 s19) fun q60 s61 =>
  J_load_147 v12 v13 v14 v15 v16 v17 v18 s61
def L_walk_59 (cf_walk : Int32 → TS → Option (Unit × TS)) : Nat → Int32 → Int32 → TS → Option (Unit × TS)
  | 0, _, _, _ => none
  | n + 1, x1, x2, σ =>
    if tI σ 197 ≤ x2 then
      some ((), σ)
    else
      ob (F_isIn x2 x1 σ) fun r12 s11 =>
      if r12 = 0 then
        nm (x2 + 1) fun v15 =>
        L_walk_59 cf_walk n x1 v15 s11
      else
        if inb x2 200 then
        if tA s11 192 (ix x2) = 2 then
          nm (x2 + 1) fun v43 =>
          L_walk_59 cf_walk n x1 v43 s11
        else
          if inb x2 200 then
          nm (tA s11 191 (ix x2)) fun v18 =>
          if v18 < 0 then
            nm (x2 + 1) fun v19 =>
            L_walk_59 cf_walk n x1 v19 s11
          else
            if v18 = x1 then
              nm (x2 + 1) fun v40 =>
              L_walk_59 cf_walk n x1 v40 s11
            else
              if inb v18 400 then
              if 0 ≤ tA s11 215 (ix v18) then
                if inb v18 400 then
                if tA s11 218 (ix v18) = 0 then
                  nm (x2 + 1) fun v23 =>
                  L_walk_59 cf_walk n x1 v23 s11
                else
                  if inb x1 400 then
                  if inb v18 400 then
                  if inb x1 400 then
                  nm (tsA s11 216 (ix x1) (mmin (tA s11 216 (ix x1)) (tA s11 215 (ix v18)))) fun s27 =>
                  nm (x2 + 1) fun v28 =>
                  L_walk_59 cf_walk n x1 v28 s27
                  else none
                  else none
                  else none
                else none
              else
                ob (cf_walk v18 s11) fun r31 s30 =>
                if inb x1 400 then
                if inb v18 400 then
                if inb x1 400 then
                nm (tsA s30 216 (ix x1) (mmin (tA s30 216 (ix x1)) (tA s30 216 (ix v18)))) fun s37 =>
                nm (x2 + 1) fun v38 =>
                L_walk_59 cf_walk n x1 v38 s37
                else none
                else none
                else none
              else none
          else none
        else none
def B_walk (cf_walk : Int32 → TS → Option (Unit × TS)) (x1 : Int32) (σ : TS) : Option (Unit × TS) :=
  if inb x1 400 then
  nm (tsA σ 215 (ix x1) (tI σ 219)) fun s2 =>
  if inb x1 400 then
  nm (tsA s2 216 (ix x1) (tI s2 219)) fun s4 =>
  nm (tsI s4 219 ((tI s4 219) + 1)) fun s5 =>
  if inb (tI s5 220) 400 then
  nm (tsA s5 217 (ix (tI s5 220)) x1) fun s7 =>
  nm (tsI s7 220 ((tI s7 220) + 1)) fun s8 =>
  if inb x1 400 then
  nm (tsA s8 218 (ix x1) (nZ 1)) fun s10 =>
  ob (L_walk_59 cf_walk FU x1 0 s10) fun q47 s48 =>
  if inb x1 400 then
  if inb x1 400 then
  if tA s48 216 (ix x1) = tA s48 215 (ix x1) then
    ob (F_endBlock x1 s48) fun r53 s52 =>
    some ((), s52)
  else
    some ((), s48)
  else none
  else none
  else none
  else none
  else none
  else none
def G_walk : Nat → (Int32 → TS → Option (Unit × TS))
  | 0 => (fun _ _ => none)
  | d + 1 => (B_walk (G_walk d))
def F_walk : Int32 → TS → Option (Unit × TS) := (G_walk 300)
def L_makeBlocks_7 : Nat → Int32 → TS → Option (Unit × TS)
  | 0, _, _ => none
  | n + 1, x1, σ =>
    if tI σ 197 ≤ x1 then
      some ((), σ)
    else
      if inb x1 200 then
      nm (tsA σ 191 (ix x1) (-1)) fun s3 =>
      nm (x1 + 1) fun v4 =>
      L_makeBlocks_7 n v4 s3
      else none
def L_makeBlocks_30 : Nat → Int32 → TS → Option (Unit × TS)
  | 0, _, _ => none
  | n + 1, x1, σ =>
    if tI σ 143 ≤ x1 then
      some ((), σ)
    else
      ob (F_isBad σ) fun r10 s9 =>
      if r10 = 0 then
        if inb x1 400 then
        if tA s9 180 (ix x1) = 0 then
          ob (F_unmark s9) fun r16 s15 =>
          ob (F_attempt x1 s15) fun r20 s19 =>
          if r20 = 0 then
            ob (F_bad 54 x1 s19) fun r25 s24 =>
            nm (x1 + 1) fun v28 =>
            L_makeBlocks_30 n v28 s24
          else
            nm (x1 + 1) fun v23 =>
            L_makeBlocks_30 n v23 s19
        else
          nm (x1 + 1) fun v30 =>
          L_makeBlocks_30 n v30 s9
        else none
      else
        some ((), s9)
def L_makeBlocks_112 : Nat → Int32 → TS → Option (Unit × TS)
  | 0, _, _ => none
  | n + 1, x1, σ =>
    if tI σ 143 ≤ x1 then
      some ((), σ)
    else
      if inb x1 400 then
      nm (tsA σ 215 (ix x1) (-1)) fun s46 =>
      if inb x1 400 then
      nm (tsA s46 218 (ix x1) (nZ 0)) fun s48 =>
      if inb x1 400 then
      nm (tsA s48 196 (ix x1) (-1)) fun s50 =>
      nm (x1 + 1) fun v51 =>
      L_makeBlocks_112 n v51 s50
      else none
      else none
      else none
def L_makeBlocks_149 : Nat → Int32 → TS → Option (Unit × TS)
  | 0, _, _ => none
  | n + 1, x1, σ =>
    if tI σ 143 ≤ x1 then
      some ((), σ)
    else
      ob (F_isBad σ) fun r57 s56 =>
      if r57 = 0 then
        if inb x1 400 then
        if tA s56 180 (ix x1) = 0 then
          if inb x1 400 then
          if 0 ≤ tA s56 215 (ix x1) then
            nm (x1 + 1) fun v64 =>
            L_makeBlocks_149 n v64 s56
          else
            ob (F_walk x1 s56) fun r66 s65 =>
            nm (x1 + 1) fun v69 =>
            L_makeBlocks_149 n v69 s65
          else none
        else
          nm (x1 + 1) fun v62 =>
          L_makeBlocks_149 n v62 s56
        else none
      else
        some ((), s56)
def J_makeBlocks_82 (σ : TS) : Option (Unit × TS) :=
  ob (F_isBad σ) fun r38 s37 =>
  if r38 = 0 then
    nm (tsI s37 208 0) fun s41 =>
    nm (tsI s41 214 0) fun s42 =>
    nm (tsI s42 219 0) fun s43 =>
    nm (tsI s43 220 0) fun s44 =>
    ob (L_makeBlocks_112 FU 0 s44) fun q53 s54 =>
    ob (L_makeBlocks_149 FU 0 s54) fun q74 s75 =>
    some ((), s75)
  else
    some ((), s37)
def F_makeBlocks (σ : TS) : Option (Unit × TS) :=
  nm (tsI σ 205 2) fun s1 =>
  ob (L_makeBlocks_7 FU 0 s1) fun q6 s7 =>
  ob (L_makeBlocks_30 FU 0 s7) fun q34 s35 =>
  J_makeBlocks_82 s35
def L_makeUnknowns_12 : Nat → Int32 → TS → Option (Unit × TS)
  | 0, _, _ => none
  | n + 1, x1, σ =>
    if tI σ 107 ≤ x1 then
      some ((), σ)
    else
      if inb x1 96 then
      nm (tsA σ 179 (ix x1) (-1)) fun s4 =>
      nm (x1 + 1) fun v5 =>
      L_makeUnknowns_12 n v5 s4
      else none
def L_makeUnknowns_35 : Nat → Int32 → TS → Option (Unit × TS)
  | 0, _, _ => none
  | n + 1, x1, σ =>
    if tI σ 107 ≤ x1 then
      some ((), σ)
    else
      if inb x1 96 then
      if tA σ 94 (ix x1) = 0 then
        if inb x1 96 then
        if tA σ 177 (ix x1) = x1 then
          ob (F_newUnknown x1 0 (-1) σ) fun r14 s13 =>
          if inb x1 96 then
          nm (tsA s13 179 (ix x1) r14) fun s18 =>
          nm (x1 + 1) fun v19 =>
          L_makeUnknowns_35 n v19 s18
          else none
        else
          nm (x1 + 1) fun v20 =>
          L_makeUnknowns_35 n v20 σ
        else none
      else
        nm (x1 + 1) fun v11 =>
        L_makeUnknowns_35 n v11 σ
      else none
def L_makeUnknowns_86 : Nat → Int32 → TS → Option (Unit × TS)
  | 0, _, _ => none
  | n + 1, x1, σ =>
    if tI σ 107 ≤ x1 then
      some ((), σ)
    else
      ob (F_isBad σ) fun r28 s27 =>
      if r28 = 0 then
        if inb x1 96 then
        if tA s27 179 (ix x1) < 0 then
          nm (x1 + 1) fun v32 =>
          L_makeUnknowns_86 n v32 s27
        else
          ob (F_isSomewhere x1 0 s27) fun r34 s33 =>
          if r34 = 0 then
            ob (F_bad 50 x1 s33) fun r39 s38 =>
            nm (x1 + 1) fun v42 =>
            L_makeUnknowns_86 n v42 s38
          else
            nm (x1 + 1) fun v37 =>
            L_makeUnknowns_86 n v37 s33
        else none
      else
        some ((), s27)
def L_makeUnknowns_170 : Nat → Int32 → TS → Option (Unit × TS)
  | 0, _, _ => none
  | n + 1, x3, σ =>
    if tI σ 107 ≤ x3 then
      some ((), σ)
    else
      ob (F_isBad σ) fun r57 s56 =>
      if r57 = 0 then
        if inb x3 96 then
        if tA s56 179 (ix x3) < 0 then
          nm (x3 + 1) fun v61 =>
          L_makeUnknowns_170 n v61 s56
        else
          ob (F_isSomewhere x3 1 s56) fun r63 s62 =>
          if r63 = 0 then
            nm (x3 + 1) fun v66 =>
            L_makeUnknowns_170 n v66 s62
          else
            if inb x3 96 then
            ob (F_newUnknown x3 1 (tA s62 179 (ix x3)) s62) fun r69 s68 =>
            nm (x3 + 1) fun v72 =>
            L_makeUnknowns_170 n v72 s68
            else none
        else none
      else
        some ((), s56)
def J_makeUnknowns_168 (σ : TS) : Option (Unit × TS) :=
  ob (L_makeUnknowns_170 FU 0 σ) fun q77 s78 =>
  some ((), s78)
def J_makeUnknowns_132 (σ : TS) : Option (Unit × TS) :=
  nm (tI σ 197) fun v50 =>
  nm ((tI σ 144) - (tI σ 181)) fun v51 =>
  ob (F_isBad σ) fun r53 s52 =>
  if r53 = 0 then
    if v51 = v50 then
      J_makeUnknowns_168 s52
    else
      ob (F_bad 51 (v51 - v50) s52) fun r82 s81 =>
      J_makeUnknowns_168 s81
  else
    J_makeUnknowns_168 s52
def F_makeUnknowns (σ : TS) : Option (Unit × TS) :=
  nm (tsI σ 197 0) fun s1 =>
  nm (tsI s1 204 0) fun s2 =>
  ob (L_makeUnknowns_12 FU 0 s2) fun q7 s8 =>
  ob (L_makeUnknowns_35 FU 0 s8) fun q24 s25 =>
  ob (L_makeUnknowns_86 FU 0 s25) fun q47 s48 =>
  J_makeUnknowns_132 s48
def L_member_39 : Nat → Int32 → Int32 → Int32 → Int32 → TS → Option ((Unit ⊕ Int32) × TS)
  | 0, _, _, _, _, _ => none
  | n + 1, x1, x2, x3, x4, σ =>
    if 2 * (tI σ 82) ≤ x4 then
      some (.inl (), σ)
    else
      ob (F_headOf x4 σ) fun r5 s4 =>
      if inb x1 400 then
      if r5 = tA s4 157 (ix x1) then
        if x3 = x2 then
          some (.inr x4, s4)
        else
          nm (x3 + 1) fun v9 =>
          nm (x4 + 1) fun v10 =>
          L_member_39 n x1 x2 v9 v10 s4
      else
        nm (x4 + 1) fun v12 =>
        L_member_39 n x1 x2 x3 v12 s4
      else none
def F_member (x1 : Int32) (x2 : Int32) (σ : TS) : Option (Int32 × TS) :=
  if tI σ 108 = 0 then
    some ((-4), σ)
  else
    if x1 < 0 then
      some ((-2), σ)
    else
      if tI σ 156 ≤ x1 then
        some ((-2), σ)
      else
        if 0 ≤ x2 then
          if inb x1 400 then
          nm (tA σ 157 (ix x1)) fun v3 =>
          obS (L_member_39 FU x1 x2 0 v3 σ) (fun r19 s16 => some (r19, s16)) fun q15 s16 =>
          some ((-2), s16)
          else none
        else
          some ((-2), σ)
def F_method (x1 : Int32) (x2 : Int32) (σ : TS) : Option (Int32 × TS) :=
  if x1 < 0 then
    some ((-1), σ)
  else
    if 3 < x1 then
      some ((-1), σ)
    else
      if x2 < 1 then
        some ((-1), σ)
      else
        if x2 ≤ 6553600 then
          nm (tsI σ 223 x1) fun s1 =>
          nm (tsI s1 224 x2) fun s2 =>
          some (0, s2)
        else
          some ((-1), σ)
def L_move_241_2 : Nat → Int32 → Int32 → TS → Option (Unit × TS)
  | 0, _, _, _ => none
  | n + 1, x1, x3, σ =>
    if tI σ 198 ≤ x3 then
      some ((), σ)
    else
      ob (F_isBad σ) fun r2 s1 =>
      if r2 = 0 then
        if inb x3 200 then
        ob (F_times x1 (tA s1 241 (ix x3)) s1) fun r7 s6 =>
        ob (F_isBad s6) fun r11 s10 =>
        if r11 = 0 then
          if inb x3 200 then
          if inb x3 200 then
          ob (F_fit (((tA s10 240 (ix x3)).toInt64) + ((r7).toInt64)) s10) fun r18 s17 =>
          if inb (tA s10 207 (ix x3)) 200 then
          nm (tsA s17 166 (ix (tA s10 207 (ix x3))) r18) fun s22 =>
          nm (x3 + 1) fun v23 =>
          L_move_241_2 n x1 v23 s22
          else none
          else none
          else none
        else
          nm (x3 + 1) fun v14 =>
          L_move_241_2 n x1 v14 s10
        else none
      else
        some ((), s1)
def F_move_241 (x1 : Int32) (σ : TS) : Option (Unit × TS) :=
  ob (L_move_241_2 FU x1 0 σ) fun q27 s28 =>
  some ((), s28)
def L_move_242_2 : Nat → Int32 → Int32 → TS → Option (Unit × TS)
  | 0, _, _, _ => none
  | n + 1, x1, x3, σ =>
    if tI σ 198 ≤ x3 then
      some ((), σ)
    else
      ob (F_isBad σ) fun r2 s1 =>
      if r2 = 0 then
        if inb x3 200 then
        ob (F_times x1 (tA s1 242 (ix x3)) s1) fun r7 s6 =>
        ob (F_isBad s6) fun r11 s10 =>
        if r11 = 0 then
          if inb x3 200 then
          if inb x3 200 then
          ob (F_fit (((tA s10 240 (ix x3)).toInt64) + ((r7).toInt64)) s10) fun r18 s17 =>
          if inb (tA s10 207 (ix x3)) 200 then
          nm (tsA s17 166 (ix (tA s10 207 (ix x3))) r18) fun s22 =>
          nm (x3 + 1) fun v23 =>
          L_move_242_2 n x1 v23 s22
          else none
          else none
          else none
        else
          nm (x3 + 1) fun v14 =>
          L_move_242_2 n x1 v14 s10
        else none
      else
        some ((), s1)
def F_move_242 (x1 : Int32) (σ : TS) : Option (Unit × TS) :=
  ob (L_move_242_2 FU x1 0 σ) fun q27 s28 =>
  some ((), s28)
def L_move_243_2 : Nat → Int32 → Int32 → TS → Option (Unit × TS)
  | 0, _, _, _ => none
  | n + 1, x1, x3, σ =>
    if tI σ 198 ≤ x3 then
      some ((), σ)
    else
      ob (F_isBad σ) fun r2 s1 =>
      if r2 = 0 then
        if inb x3 200 then
        ob (F_times x1 (tA s1 243 (ix x3)) s1) fun r7 s6 =>
        ob (F_isBad s6) fun r11 s10 =>
        if r11 = 0 then
          if inb x3 200 then
          if inb x3 200 then
          ob (F_fit (((tA s10 240 (ix x3)).toInt64) + ((r7).toInt64)) s10) fun r18 s17 =>
          if inb (tA s10 207 (ix x3)) 200 then
          nm (tsA s17 166 (ix (tA s10 207 (ix x3))) r18) fun s22 =>
          nm (x3 + 1) fun v23 =>
          L_move_243_2 n x1 v23 s22
          else none
          else none
          else none
        else
          nm (x3 + 1) fun v14 =>
          L_move_243_2 n x1 v14 s10
        else none
      else
        some ((), s1)
def F_move_243 (x1 : Int32) (σ : TS) : Option (Unit × TS) :=
  ob (L_move_243_2 FU x1 0 σ) fun q27 s28 =>
  some ((), s28)
