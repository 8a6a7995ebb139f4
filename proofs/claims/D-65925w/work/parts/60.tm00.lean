set_option maxRecDepth 100000
def F_isBad (σ : TS) : Option (Int32 × TS) :=
  if tI σ 0 = 0 then
    some (0, σ)
  else
    some (1, σ)
def F_bad (x1 : Int32) (x2 : Int32) (σ : TS) : Option (Unit × TS) :=
  if tI σ 0 = 0 then
    nm (tsI σ 0 x1) fun s1 =>
    nm (tsI s1 1 x2) fun s2 =>
    some ((), s2)
  else
    some ((), σ)
def J_derOf_31 (x1 : Int32) (y0 : Int32) (σ : TS) : Option (Int32 × TS) :=
  if 0 ≤ y0 then
    if inb y0 200 then
    nm (tA σ 166 (ix y0)) fun v7 =>
    if inb x1 96 then
    if 0 ≤ tA σ 178 (ix x1) then
      some (v7, σ)
    else
      some (-v7, σ)
    else none
    else none
  else
    if inb x1 96 then
    if 0 ≤ tA σ 178 (ix x1) then
      some (0, σ)
    else
      some (-0, σ)
    else none
def F_derOf (x1 : Int32) (σ : TS) : Option (Int32 × TS) :=
  if inb x1 96 then
  nm (tA σ 177 (ix x1)) fun v2 =>
  if inb v2 96 then
  if 0 ≤ tA σ 179 (ix v2) then
    if inb v2 96 then
    if inb (tA σ 179 (ix v2)) 200 then
    J_derOf_31 x1 (tA σ 189 (ix (tA σ 179 (ix v2)))) σ
    else none
    else none
  else
    J_derOf_31 x1 (-1) σ
  else none
  else none
def F_preOf (x1 : Int32) (σ : TS) : Option (Int32 × TS) :=
  if inb x1 96 then
  if tA σ 94 (ix x1) = 2 then
    if inb x1 96 then
    some (tA σ 169 (ix x1), σ)
    else none
  else
    if inb x1 96 then
    nm (tA σ 177 (ix x1)) fun v3 =>
    if inb v3 96 then
    if 0 ≤ tA σ 179 (ix v3) then
      if inb v3 96 then
      if inb (tA σ 179 (ix v3)) 200 then
      nm (tA σ 167 (ix (tA σ 179 (ix v3)))) fun v7 =>
      if inb x1 96 then
      if 0 ≤ tA σ 178 (ix x1) then
        some (v7, σ)
      else
        some (-v7, σ)
      else none
      else none
      else none
    else
      if inb x1 96 then
      if 0 ≤ tA σ 178 (ix x1) then
        some (0, σ)
      else
        some (-0, σ)
      else none
    else none
    else none
  else none
def F_fit (x1 : Int64) (σ : TS) : Option (Int32 × TS) :=
  if 0 < lg_cmp x1 2147483647 then
    ob (F_bad 41 0 σ) fun r2 s1 =>
    some (0, s1)
  else
    if 0 ≤ lg_cmp x1 (-2147483647) then
      some ((x1).toInt32, σ)
    else
      ob (F_bad 41 0 σ) fun r6 s5 =>
      some (0, s5)
def L_root_27 : Nat → Int64 → Int64 → Int64 → TS → Option (Int64 × TS)
  | 0, _, _, _, _ => none
  | n + 1, x2, x4, x6, σ =>
    if lg_cmp (x6 - x4) 1 ≤ 0 then
      some (x4, σ)
    else
      nm ((x4 + x6) >>> (((1 : Int32)).toInt64 &&& 63)) fun v2 =>
      if 0 < lg_cmp (v2 * v2) x2 then
        L_root_27 n x2 x4 v2 σ
      else
        L_root_27 n x2 v2 x6 σ
def F_root (x1 : Int32) (σ : TS) : Option (Int32 × TS) :=
  if 0 ≤ x1 then
    nm (((x1).toInt64) <<< (((16 : Int32)).toInt64 &&& 63)) fun v1 =>
    ob (L_root_27 FU v1 0 16777216 σ) fun q5 s6 =>
    ob (F_fit q5 s6) fun r9 s8 =>
    some (r9, s8)
  else
    ob (F_bad 42 0 σ) fun r14 s13 =>
    some (0, s13)
def F_compare (x1 : Int32) (x2 : Int32) (x3 : Int32) (σ : TS) : Option (Int32 × TS) :=
  if x1 = 60 then
    if x3 ≤ x2 then
      some (0, σ)
    else
      some (1, σ)
  else
  if x1 = 62 then
    if x2 ≤ x3 then
      some (0, σ)
    else
      some (1, σ)
  else
  if x1 = 15421 then
    if x3 < x2 then
      some (0, σ)
    else
      some (1, σ)
  else
  if x1 = 15677 then
    if x2 = x3 then
      some (1, σ)
    else
      some (0, σ)
  else
  if x1 = 15933 then
    if x2 < x3 then
      some (0, σ)
    else
      some (1, σ)
  else
  if x2 = x3 then
    some (0, σ)
  else
    some (1, σ)
def F_isArithmetic (x0 : Int32) (σ : TS) : Option (Int32 × TS) :=
  if x0 = 5 then
    some (1, σ)
  else
    if x0 = 6 then
      some (1, σ)
    else
      if x0 = 8 then
        some (1, σ)
      else
        if x0 = 9 then
          some (1, σ)
        else
          some (0, σ)
def F_times (x1 : Int32) (x2 : Int32) (σ : TS) : Option (Int32 × TS) :=
  ob (F_fit ((((x1).toInt64) * ((x2).toInt64)) >>> (((16 : Int32)).toInt64 &&& 63)) σ) fun r2 s1 =>
  some (r2, s1)
def F_over (x1 : Int32) (x2 : Int32) (σ : TS) : Option (Int32 × TS) :=
  if x2 = 0 then
    ob (F_bad 40 0 σ) fun r7 s6 =>
    some (0, s6)
  else
    if ¬ ((x2).toInt64) = 0 then
    ob (F_fit ((((x1).toInt64) <<< (((16 : Int32)).toInt64 &&& 63)) / ((x2).toInt64)) σ) fun r3 s2 =>
    some (r3, s2)
    else none
def L_chainValue_8 (cf_worth : Int32 → Int32 → TS → Option (Int32 × TS)) : Nat → Int32 → Int32 → Int32 → TS → Option (Int32 × TS)
  | 0, _, _, _, _ => none
  | n + 1, x2, x3, x4, σ =>
    if inb x4 70000 then
    ob (F_isArithmetic (tA σ 121 (ix x4)) σ) fun r4 s3 =>
    if r4 = 0 then
      some (x4, s3)
    else
      if inb (tI s3 171) 70000 then
      nm (tsA s3 170 (ix (tI s3 171)) x4) fun s8 =>
      nm (tsI s8 171 ((tI s8 171) + 1)) fun s9 =>
      if inb x4 70000 then
      nm (tA s9 122 (ix x4)) fun v11 =>
      L_chainValue_8 cf_worth n x2 x3 v11 s9
      else none
      else none
    else none
def L_chainValue_63 (cf_worth : Int32 → Int32 → TS → Option (Int32 × TS)) : Nat → Int32 → Int32 → Int32 → TS → Option (Int32 × TS)
  | 0, _, _, _, _ => none
  | n + 1, x2, x3, x5, σ =>
    if tI σ 171 ≤ x3 then
      some (x5, σ)
    else
      nm (tsI σ 171 ((tI σ 171) - 1)) fun s20 =>
      if inb (tI s20 171) 70000 then
      nm (tA s20 170 (ix (tI s20 171))) fun v22 =>
      ob (F_isBad s20) fun r24 s23 =>
      if r24 = 0 then
        if inb v22 70000 then
        ob (cf_worth (tA s23 123 (ix v22)) x2 s23) fun r29 s28 =>
        ob (F_isBad s28) fun r33 s32 =>
        if r33 = 0 then
          if inb v22 70000 then
          nm (tA s32 121 (ix v22)) fun v37 =>
          if v37 = 5 then
            ob (F_fit (((x5).toInt64) + ((r29).toInt64)) s32) fun r53 s52 =>
            L_chainValue_63 cf_worth n x2 x3 r53 s52
          else
            if v37 = 6 then
              ob (F_fit (((x5).toInt64) - ((r29).toInt64)) s32) fun r48 s47 =>
              L_chainValue_63 cf_worth n x2 x3 r48 s47
            else
              if v37 = 8 then
                ob (F_times x5 r29 s32) fun r43 s42 =>
                L_chainValue_63 cf_worth n x2 x3 r43 s42
              else
                ob (F_over x5 r29 s32) fun r39 s38 =>
                L_chainValue_63 cf_worth n x2 x3 r39 s38
          else none
        else
          L_chainValue_63 cf_worth n x2 x3 x5 s32
        else none
      else
        L_chainValue_63 cf_worth n x2 x3 x5 s23
      else none
def B_chainValue (cf_worth : Int32 → Int32 → TS → Option (Int32 × TS)) (x1 : Int32) (x2 : Int32) (σ : TS) : Option (Int32 × TS) :=
  nm (tI σ 171) fun v1 =>
  ob (L_chainValue_8 cf_worth FU x2 v1 x1 σ) fun q13 s14 =>
  ob (cf_worth q13 x2 s14) fun r17 s16 =>
  ob (L_chainValue_63 cf_worth FU x2 v1 r17 s16) fun q60 s61 =>
  some (q60, s61)
def B_finds (cf_worth : Int32 → Int32 → TS → Option (Int32 × TS)) (x1 : Int32) (x2 : Int32) (σ : TS) : Option (Int32 × TS) :=
  if inb x1 70000 then
  ob (cf_worth (tA σ 123 (ix x1)) x2 σ) fun r3 s2 =>
  if inb x1 70000 then
  ob (cf_worth (tA s2 124 (ix x1)) x2 s2) fun r8 s7 =>
  ob (F_isBad s7) fun r12 s11 =>
  if r12 = 0 then
    if inb x1 70000 then
    ob (F_compare (tA s11 122 (ix x1)) r3 r8 s11) fun r17 s16 =>
    if r17 = 0 then
      some (0, s16)
    else
      some (1, s16)
    else none
  else
    some (0, s11)
  else none
  else none
def B_holds (cf_holds : Int32 → Int32 → TS → Option (Int32 × TS)) (cf_finds : Int32 → Int32 → TS → Option (Int32 × TS)) (x1 : Int32) (x2 : Int32) (σ : TS) : Option (Int32 × TS) :=
  ob (F_isBad σ) fun r2 s1 =>
  if r2 = 0 then
    if inb x1 70000 then
    if tA s1 121 (ix x1) = 20 then
      if x2 = 1 then
        if inb x1 70000 then
        if inb (tA s1 162 (ix x1)) 24 then
        some (tA s1 163 (ix (tA s1 162 (ix x1))), s1)
        else none
        else none
      else
        ob (cf_finds x1 x2 s1) fun r8 s7 =>
        some (r8, s7)
    else
    if tA s1 121 (ix x1) = 21 then
      if inb x1 70000 then
      ob (cf_holds (tA s1 122 (ix x1)) x2 s1) fun r18 s17 =>
      if inb x1 70000 then
      ob (cf_holds (tA s17 123 (ix x1)) x2 s17) fun r23 s22 =>
      if r23 = 0 then
        some (0, s22)
      else
        if r18 = 0 then
          some (0, s22)
        else
          some (1, s22)
      else none
      else none
    else
    if tA s1 121 (ix x1) = 22 then
      if inb x1 70000 then
      ob (cf_holds (tA s1 122 (ix x1)) x2 s1) fun r31 s30 =>
      if inb x1 70000 then
      ob (cf_holds (tA s30 123 (ix x1)) x2 s30) fun r36 s35 =>
      if r36 = 0 then
        if r31 = 0 then
          some (0, s35)
        else
          some (1, s35)
      else
        some (1, s35)
      else none
      else none
    else
    if tA s1 121 (ix x1) = 23 then
      if inb x1 70000 then
      ob (cf_holds (tA s1 122 (ix x1)) x2 s1) fun r44 s43 =>
      if r44 = 0 then
        ob (F_isBad s43) fun r48 s47 =>
        if r48 = 0 then
          some (1, s47)
        else
          some (0, s47)
      else
        some (0, s43)
      else none
    else
    if tA s1 121 (ix x1) = 24 then
      if inb x1 70000 then
      if inb (tA s1 162 (ix x1)) 24 then
      some (tA s1 163 (ix (tA s1 162 (ix x1))), s1)
      else none
      else none
    else
    ob (cf_finds x1 x2 s1) fun r58 s57 =>
    some (r58, s57)
    else none
  else
    some (0, s1)
def B_parameter (cf_worth : Int32 → Int32 → TS → Option (Int32 × TS)) (x1 : Int32) (σ : TS) : Option (Unit × TS) :=
  if inb x1 96 then
  if tA σ 160 (ix x1) = 2 then
    some ((), σ)
  else
    ob (F_isBad σ) fun r3 s2 =>
    if r3 = 0 then
      if inb x1 96 then
      if tA s2 160 (ix x1) = 1 then
        ob (F_bad 31 0 s2) fun r34 s33 =>
        some ((), s33)
      else
        if tI s2 161 = 8 then
          ob (F_bad 24 0 s2) fun r29 s28 =>
          some ((), s28)
        else
          nm (tsI s2 161 ((tI s2 161) + 1)) fun s7 =>
          if inb x1 96 then
          nm (tsA s7 160 (ix x1) 1) fun s9 =>
          if inb x1 96 then
          if tA s9 158 (ix x1) = 0 then
            if inb x1 96 then
            if inb x1 96 then
            nm (tsA s9 104 (ix x1) (tA s9 104 (ix x1))) fun s23 =>
            if inb x1 96 then
            nm (tsA s23 160 (ix x1) 2) fun s25 =>
            nm (tsI s25 161 ((tI s25 161) - 1)) fun s26 =>
            some ((), s26)
            else none
            else none
            else none
          else
            if inb x1 96 then
            ob (cf_worth (tA s9 158 (ix x1)) 0 s9) fun r13 s12 =>
            if inb x1 96 then
            nm (tsA s12 104 (ix x1) r13) fun s17 =>
            if inb x1 96 then
            nm (tsA s17 160 (ix x1) 2) fun s19 =>
            nm (tsI s19 161 ((tI s19 161) - 1)) fun s20 =>
            some ((), s20)
            else none
            else none
            else none
          else none
          else none
      else none
    else
      some ((), s2)
  else none
def B_valueOf (cf_parameter : Int32 → TS → Option (Unit × TS)) (x1 : Int32) (σ : TS) : Option (Int32 × TS) :=
  if inb x1 96 then
  if tA σ 94 (ix x1) = 1 then
    if inb x1 96 then
    if tA σ 160 (ix x1) = 2 then
      if inb x1 96 then
      some (tA σ 104 (ix x1), σ)
      else none
    else
      ob (cf_parameter x1 σ) fun r19 s18 =>
      if inb x1 96 then
      some (tA s18 104 (ix x1), s18)
      else none
    else none
  else
    if inb x1 96 then
    if tA σ 94 (ix x1) = 2 then
      if inb x1 96 then
      some (tA σ 168 (ix x1), σ)
      else none
    else
      if inb x1 96 then
      nm (tA σ 177 (ix x1)) fun v4 =>
      if inb v4 96 then
      if 0 ≤ tA σ 179 (ix v4) then
        if inb v4 96 then
        if inb (tA σ 179 (ix v4)) 200 then
        nm (tA σ 166 (ix (tA σ 179 (ix v4)))) fun v8 =>
        if inb x1 96 then
        if 0 ≤ tA σ 178 (ix x1) then
          some (v8, σ)
        else
          some (-v8, σ)
        else none
        else none
        else none
      else
        if inb x1 96 then
        if 0 ≤ tA σ 178 (ix x1) then
          some (0, σ)
        else
          some (-0, σ)
        else none
      else none
      else none
    else none
  else none
def B_worth (cf_valueOf : Int32 → TS → Option (Int32 × TS)) (cf_worth : Int32 → Int32 → TS → Option (Int32 × TS)) (cf_holds : Int32 → Int32 → TS → Option (Int32 × TS)) (cf_chainValue : Int32 → Int32 → TS → Option (Int32 × TS)) (x1 : Int32) (x2 : Int32) (σ : TS) : Option (Int32 × TS) :=
  ob (F_isBad σ) fun r2 s1 =>
  if r2 = 0 then
    if inb x1 70000 then
    if tA s1 121 (ix x1) = 0 then
      if inb x1 70000 then
      some (tA s1 122 (ix x1), s1)
      else none
    else
    if tA s1 121 (ix x1) = 1 then
      some (tI s1 165, s1)
    else
    if tA s1 121 (ix x1) = 2 then
      if inb x1 70000 then
      ob (cf_valueOf (tA s1 122 (ix x1)) s1) fun r12 s11 =>
      some (r12, s11)
      else none
    else
    if tA s1 121 (ix x1) = 3 then
      if inb x1 70000 then
      ob (F_derOf (tA s1 122 (ix x1)) s1) fun r18 s17 =>
      some (r18, s17)
      else none
    else
    if tA s1 121 (ix x1) = 4 then
      if inb x1 70000 then
      ob (F_preOf (tA s1 122 (ix x1)) s1) fun r24 s23 =>
      some (r24, s23)
      else none
    else
    if tA s1 121 (ix x1) = 5 then
      ob (cf_chainValue x1 x2 s1) fun r29 s28 =>
      some (r29, s28)
    else
    if tA s1 121 (ix x1) = 6 then
      ob (cf_chainValue x1 x2 s1) fun r34 s33 =>
      some (r34, s33)
    else
    if tA s1 121 (ix x1) = 7 then
      if inb x1 70000 then
      ob (cf_worth (tA s1 122 (ix x1)) x2 s1) fun r40 s39 =>
      some (-r40, s39)
      else none
    else
    if tA s1 121 (ix x1) = 8 then
      ob (cf_chainValue x1 x2 s1) fun r45 s44 =>
      some (r45, s44)
    else
    if tA s1 121 (ix x1) = 9 then
      ob (cf_chainValue x1 x2 s1) fun r50 s49 =>
      some (r50, s49)
    else
    if tA s1 121 (ix x1) = 10 then
      if inb x1 70000 then
      ob (cf_worth (tA s1 122 (ix x1)) x2 s1) fun r56 s55 =>
      if 0 ≤ r56 then
        some (r56, s55)
      else
        some (-r56, s55)
      else none
    else
    if tA s1 121 (ix x1) = 11 then
      if inb x1 70000 then
      ob (cf_worth (tA s1 122 (ix x1)) x2 s1) fun r63 s62 =>
      ob (F_root r63 s62) fun r67 s66 =>
      some (r67, s66)
      else none
    else
    if tA s1 121 (ix x1) = 12 then
      if inb x1 70000 then
      ob (cf_worth (tA s1 122 (ix x1)) x2 s1) fun r73 s72 =>
      if 0 ≤ r73 then
        if r73 ≤ 0 then
          some (0, s72)
        else
          some (65536, s72)
      else
        some ((-65536), s72)
      else none
    else
    if tA s1 121 (ix x1) = 13 then
      if inb x1 70000 then
      ob (cf_worth (tA s1 122 (ix x1)) x2 s1) fun r81 s80 =>
      ob (F_fit (((r81).toInt64) &&& (-65536)) s80) fun r85 s84 =>
      some (r85, s84)
      else none
    else
    if tA s1 121 (ix x1) = 14 then
      if inb x1 70000 then
      ob (cf_worth (tA s1 122 (ix x1)) x2 s1) fun r91 s90 =>
      if inb x1 70000 then
      ob (cf_worth (tA s90 123 (ix x1)) x2 s90) fun r96 s95 =>
      some (mmin r91 r96, s95)
      else none
      else none
    else
    if tA s1 121 (ix x1) = 15 then
      if inb x1 70000 then
      ob (cf_worth (tA s1 122 (ix x1)) x2 s1) fun r102 s101 =>
      if inb x1 70000 then
      ob (cf_worth (tA s101 123 (ix x1)) x2 s101) fun r107 s106 =>
      some (mmax r102 r107, s106)
      else none
      else none
    else
    if tA s1 121 (ix x1) = 16 then
      if inb x1 70000 then
      ob (cf_holds (tA s1 122 (ix x1)) x2 s1) fun r113 s112 =>
      if r113 = 0 then
        if inb x1 70000 then
        ob (cf_worth (tA s112 124 (ix x1)) x2 s112) fun r118 s117 =>
        some (r118, s117)
        else none
      else
        if inb x1 70000 then
        ob (cf_worth (tA s112 123 (ix x1)) x2 s112) fun r123 s122 =>
        some (r123, s122)
        else none
      else none
    else
    if tA s1 121 (ix x1) = 17 then
      ob (cf_chainValue x1 x2 s1) fun r129 s128 =>
      some (r129, s128)
    else
    if tA s1 121 (ix x1) = 18 then
      ob (cf_chainValue x1 x2 s1) fun r134 s133 =>
      some (r134, s133)
    else
    if tA s1 121 (ix x1) = 19 then
      ob (cf_chainValue x1 x2 s1) fun r139 s138 =>
      some (r139, s138)
    else
    if tA s1 121 (ix x1) = 20 then
      ob (cf_chainValue x1 x2 s1) fun r144 s143 =>
      some (r144, s143)
    else
    if tA s1 121 (ix x1) = 21 then
      ob (cf_chainValue x1 x2 s1) fun r149 s148 =>
      some (r149, s148)
    else
    if tA s1 121 (ix x1) = 22 then
      ob (cf_chainValue x1 x2 s1) fun r154 s153 =>
      some (r154, s153)
    else
    if tA s1 121 (ix x1) = 23 then
      ob (cf_chainValue x1 x2 s1) fun r159 s158 =>
      some (r159, s158)
    else
    if tA s1 121 (ix x1) = 24 then
      ob (cf_chainValue x1 x2 s1) fun r164 s163 =>
      some (r164, s163)
    else
    if tA s1 121 (ix x1) = 25 then
      ob (cf_chainValue x1 x2 s1) fun r169 s168 =>
      some (r169, s168)
    else
    if tA s1 121 (ix x1) = 26 then
      ob (cf_chainValue x1 x2 s1) fun r174 s173 =>
      some (r174, s173)
    else
    if tA s1 121 (ix x1) = 27 then
      ob (cf_chainValue x1 x2 s1) fun r179 s178 =>
      some (r179, s178)
    else
    if tA s1 121 (ix x1) = 28 then
      ob (cf_chainValue x1 x2 s1) fun r184 s183 =>
      some (r184, s183)
    else
    if tA s1 121 (ix x1) = 29 then
      ob (cf_chainValue x1 x2 s1) fun r189 s188 =>
      some (r189, s188)
    else
    if tA s1 121 (ix x1) = 30 then
      if inb x1 70000 then
      if inb (tA s1 122 (ix x1)) 200 then
      some (tA s1 166 (ix (tA s1 122 (ix x1))), s1)
      else none
      else none
    else
    ob (cf_chainValue x1 x2 s1) fun r196 s195 =>
    some (r196, s195)
    else none
  else
    some (0, s1)
def G_chainValue : Nat → (Int32 → Int32 → TS → Option (Int32 × TS)) × (Int32 → Int32 → TS → Option (Int32 × TS)) × (Int32 → Int32 → TS → Option (Int32 × TS)) × (Int32 → TS → Option (Unit × TS)) × (Int32 → TS → Option (Int32 × TS)) × (Int32 → Int32 → TS → Option (Int32 × TS))
  | 0 => (fun _ _ _ => none, fun _ _ _ => none, fun _ _ _ => none, fun _ _ => none, fun _ _ => none, fun _ _ _ => none)
  | d + 1 => (B_chainValue (G_chainValue d).2.2.2.2.2, B_finds (G_chainValue d).2.2.2.2.2, B_holds (G_chainValue d).2.2.1 (G_chainValue d).2.1, B_parameter (G_chainValue d).2.2.2.2.2, B_valueOf (G_chainValue d).2.2.2.1, B_worth (G_chainValue d).2.2.2.2.1 (G_chainValue d).2.2.2.2.2 (G_chainValue d).2.2.1 (G_chainValue d).1)
def F_chainValue : Int32 → Int32 → TS → Option (Int32 × TS) := (G_chainValue 1900).1
def F_finds : Int32 → Int32 → TS → Option (Int32 × TS) := (G_chainValue 1900).2.1
def F_holds : Int32 → Int32 → TS → Option (Int32 × TS) := (G_chainValue 1900).2.2.1
def F_parameter : Int32 → TS → Option (Unit × TS) := (G_chainValue 1900).2.2.2.1
def F_valueOf : Int32 → TS → Option (Int32 × TS) := (G_chainValue 1900).2.2.2.2.1
def F_worth : Int32 → Int32 → TS → Option (Int32 × TS) := (G_chainValue 1900).2.2.2.2.2
def L_act_7 : Nat → Int32 → Int32 → TS → Option ((Unit ⊕ Unit) × TS)
  | 0, _, _, _ => none
  | n + 1, x1, x2, σ =>
    if inb x1 12 then
    if inb x1 12 then
    if (tA σ 146 (ix x1)) + (tA σ 147 (ix x1)) ≤ x2 then
      some (.inl (), σ)
    else
      ob (F_isBad σ) fun r6 s5 =>
      if r6 = 0 then
        if inb x2 200 then
        ob (F_worth (tA s5 151 (ix x2)) 1 s5) fun r11 s10 =>
        ob (F_isBad s10) fun r15 s14 =>
        if r15 = 0 then
          if inb x2 200 then
          nm (tA s14 150 (ix x2)) fun v19 =>
          if inb x2 200 then
          if tA s14 149 (ix x2) = 6 then
            if inb v19 96 then
            nm (tsA s14 168 (ix v19) r11) fun s38 =>
            nm (x2 + 1) fun v39 =>
            L_act_7 n x1 v39 s38
            else none
          else
            if inb v19 96 then
            if inb (tA s14 177 (ix v19)) 96 then
            nm (tA s14 179 (ix (tA s14 177 (ix v19)))) fun v23 =>
            if v23 < 0 then
              nm (x2 + 1) fun v24 =>
              L_act_7 n x1 v24 s14
            else
              if inb v23 200 then
              if tA s14 192 (ix v23) = 2 then
                if inb v19 96 then
                if 0 ≤ tA s14 178 (ix v19) then
                  if inb v23 200 then
                  nm (tsA s14 166 (ix v23) r11) fun s29 =>
                  nm (x2 + 1) fun v30 =>
                  L_act_7 n x1 v30 s29
                  else none
                else
                  if inb v23 200 then
                  nm (tsA s14 166 (ix v23) (-r11)) fun s32 =>
                  nm (x2 + 1) fun v33 =>
                  L_act_7 n x1 v33 s32
                  else none
                else none
              else
                nm (x2 + 1) fun v26 =>
                L_act_7 n x1 v26 s14
              else none
            else none
            else none
          else none
          else none
        else
          some (.inr (), s14)
        else none
      else
        some (.inl (), s5)
    else none
    else none
def F_act (x1 : Int32) (σ : TS) : Option (Unit × TS) :=
  if inb x1 12 then
  nm (tA σ 146 (ix x1)) fun v2 =>
  obS (L_act_7 FU x1 v2 σ) (fun r48 s45 => some (r48, s45)) fun q44 s45 =>
  some ((), s45)
  else none
def F_addEquation (x1 : Int32) (x2 : Int32) (σ : TS) : Option (Unit × TS) :=
  ob (F_isBad σ) fun r2 s1 =>
  if r2 = 0 then
    if tI s1 143 = 120 then
      ob (F_bad 24 0 s1) fun r11 s10 =>
      some ((), s10)
    else
      if inb (tI s1 143) 400 then
      nm (tsA s1 141 (ix (tI s1 143)) x1) fun s6 =>
      if inb (tI s6 143) 400 then
      nm (tsA s6 142 (ix (tI s6 143)) x2) fun s8 =>
      nm (tsI s8 143 ((tI s8 143) + 1)) fun s9 =>
      some ((), s9)
      else none
      else none
  else
    some ((), s1)
def F_isVariable (x1 : Int32) (σ : TS) : Option (Int32 × TS) :=
  if x1 < 0 then
    some (0, σ)
  else
    if tI σ 107 ≤ x1 then
      some (0, σ)
    else
      some (1, σ)
def F_alias (x1 : Int32) (x2 : Int32) (σ : TS) : Option (Int32 × TS) :=
  if tI σ 109 = 0 then
    some ((-4), σ)
  else
    ob (F_isVariable x1 σ) fun r3 s2 =>
    if r3 = 0 then
      some ((-2), s2)
    else
      if x2 < 0 then
        some ((-1), s2)
      else
        if x2 ≤ 2 then
          if x2 = 0 then
            if inb x1 96 then
            some (tA s2 177 (ix x1), s2)
            else none
          else
            if x2 = 1 then
              if inb x1 96 then
              some (tA s2 178 (ix x1), s2)
              else none
            else
              if inb x1 96 then
              if tA s2 94 (ix x1) = 0 then
                if inb x1 96 then
                if inb (tA s2 177 (ix x1)) 96 then
                if 0 ≤ tA s2 179 (ix (tA s2 177 (ix x1))) then
                  if inb x1 96 then
                  if inb (tA s2 177 (ix x1)) 96 then
                  some (tA s2 179 (ix (tA s2 177 (ix x1))), s2)
                  else none
                  else none
                else
                  some ((-2), s2)
                else none
                else none
              else
                some ((-2), s2)
              else none
        else
          some ((-1), s2)
def B_gather (cf_gather : Int32 → Int32 → TS → Option (Int32 × TS)) (x1 : Int32) (x2 : Int32) (σ : TS) : Option (Int32 × TS) :=
  if inb x1 70000 then
  if tA σ 121 (ix x1) = 0 then
    if inb x1 70000 then
    if tA σ 122 (ix x1) = 0 then
      some (1, σ)
    else
      some (0, σ)
    else none
  else
  if tA σ 121 (ix x1) = 1 then
    some (0, σ)
  else
  if tA σ 121 (ix x1) = 2 then
    if inb x1 70000 then
    if inb (tA σ 122 (ix x1)) 96 then
    if tA σ 94 (ix (tA σ 122 (ix x1))) = 0 then
      nm (tsI σ 186 ((tI σ 186) + 1)) fun s9 =>
      if tI s9 186 = 1 then
        if inb x1 70000 then
        nm (tsI s9 182 (tA s9 122 (ix x1))) fun s15 =>
        nm (tsI s15 184 x2) fun s16 =>
        if 2 < tI s16 186 then
          some (0, s16)
        else
          some (1, s16)
        else none
      else
        if inb x1 70000 then
        nm (tsI s9 183 (tA s9 122 (ix x1))) fun s11 =>
        nm (tsI s11 185 x2) fun s12 =>
        if 2 < tI s12 186 then
          some (0, s12)
        else
          some (1, s12)
        else none
    else
      some (0, σ)
    else none
    else none
  else
  if tA σ 121 (ix x1) = 3 then
    some (0, σ)
  else
  if tA σ 121 (ix x1) = 4 then
    some (0, σ)
  else
  if tA σ 121 (ix x1) = 5 then
    if inb x1 70000 then
    ob (cf_gather (tA σ 122 (ix x1)) x2 σ) fun r25 s24 =>
    if r25 = 0 then
      some (0, s24)
    else
      if inb x1 70000 then
      ob (cf_gather (tA s24 123 (ix x1)) x2 s24) fun r30 s29 =>
      if r30 = 0 then
        some (0, s29)
      else
        some (1, s29)
      else none
    else none
  else
  if tA σ 121 (ix x1) = 6 then
    if inb x1 70000 then
    ob (cf_gather (tA σ 122 (ix x1)) x2 σ) fun r38 s37 =>
    if r38 = 0 then
      some (0, s37)
    else
      if inb x1 70000 then
      ob (cf_gather (tA s37 123 (ix x1)) (-x2) s37) fun r43 s42 =>
      if r43 = 0 then
        some (0, s42)
      else
        some (1, s42)
      else none
    else none
  else
  if tA σ 121 (ix x1) = 7 then
    if inb x1 70000 then
    ob (cf_gather (tA σ 122 (ix x1)) (-x2) σ) fun r51 s50 =>
    some (r51, s50)
    else none
  else
  some (0, σ)
  else none
def G_gather : Nat → (Int32 → Int32 → TS → Option (Int32 × TS))
  | 0 => (fun _ _ _ => none)
  | d + 1 => (B_gather (G_gather d))
def F_gather : Int32 → Int32 → TS → Option (Int32 × TS) := (G_gather 300)
def F_isAlias (x1 : Int32) (x2 : Int32) (σ : TS) : Option (Int32 × TS) :=
  nm (tsI σ 186 0) fun s1 =>
  ob (F_gather x1 1 s1) fun r3 s2 =>
  if r3 = 0 then
    some (0, s2)
  else
    ob (F_gather x2 (-1) s2) fun r7 s6 =>
    if r7 = 0 then
      some (0, s6)
    else
      if tI s6 186 = 2 then
        if tI s6 182 = tI s6 183 then
          some (0, s6)
        else
          some (1, s6)
      else
        some (0, s6)
def L_aliases_7 : Nat → Int32 → TS → Option (Unit × TS)
  | 0, _, _ => none
  | n + 1, x1, σ =>
    if tI σ 107 ≤ x1 then
      some ((), σ)
    else
      if inb x1 96 then
      nm (tsA σ 177 (ix x1) x1) fun s3 =>
      if inb x1 96 then
      nm (tsA s3 178 (ix x1) 1) fun s5 =>
      nm (x1 + 1) fun v6 =>
      L_aliases_7 n v6 s5
      else none
      else none
def L_aliases_157 : Nat → Int32 → Int32 → Int32 → Int32 → Int32 → TS → Option (Unit × TS)
  | 0, _, _, _, _, _, _ => none
  | n + 1, x1, x5, x6, x7, x8, σ =>
    if tI σ 107 ≤ x8 then
      some ((), σ)
    else
      if inb x8 96 then
      if tA σ 177 (ix x8) = x7 then
        if inb x8 96 then
        nm (tsA σ 177 (ix x8) x6) fun s31 =>
        if inb x8 96 then
        if inb x8 96 then
        nm (tsA s31 178 (ix x8) ((tA s31 178 (ix x8)) * x5)) fun s34 =>
        nm (x8 + 1) fun v35 =>
        L_aliases_157 n x1 x5 x6 x7 v35 s34
        else none
        else none
        else none
      else
        nm (x8 + 1) fun v36 =>
        L_aliases_157 n x1 x5 x6 x7 v36 σ
      else none
def L_aliases_37 : Nat → Int32 → TS → Option (Unit × TS)
  | 0, _, _ => none
  | n + 1, x1, σ =>
    if tI σ 144 ≤ x1 then
      some ((), σ)
    else
      if inb x1 400 then
      nm (tsA σ 180 (ix x1) (nZ 0)) fun s12 =>
      if inb x1 120 then
      if inb x1 120 then
      ob (F_isAlias (tA s12 174 (ix x1)) (tA s12 175 (ix x1)) s12) fun r16 s15 =>
      if r16 = 0 then
        nm (x1 + 1) fun v49 =>
        L_aliases_37 n v49 s15
      else
        nm ((-(tI s15 184)) * (tI s15 185)) fun v19 =>
        if inb (tI s15 182) 96 then
        nm (tA s15 177 (ix (tI s15 182))) fun v21 =>
        if inb (tI s15 183) 96 then
        nm (tA s15 177 (ix (tI s15 183))) fun v23 =>
        if v21 = v23 then
          nm (x1 + 1) fun v47 =>
          L_aliases_37 n v47 s15
        else
          if inb (tI s15 182) 96 then
          if inb (tI s15 183) 96 then
          nm (((tA s15 178 (ix (tI s15 182))) * (tA s15 178 (ix (tI s15 183)))) * v19) fun v26 =>
          nm (mmin v21 v23) fun v27 =>
          nm (mmax v21 v23) fun v28 =>
          ob (L_aliases_157 FU x1 v26 v27 v28 0 s15) fun q39 s40 =>
          if inb x1 400 then
          nm (tsA s40 180 (ix x1) (nZ 1)) fun s43 =>
          nm (tsI s43 181 ((tI s43 181) + 1)) fun s44 =>
          nm (x1 + 1) fun v45 =>
          L_aliases_37 n v45 s44
          else none
          else none
          else none
        else none
        else none
      else none
      else none
      else none
def F_aliases (σ : TS) : Option (Unit × TS) :=
  nm (tsI σ 181 0) fun s1 =>
  ob (L_aliases_7 FU 0 s1) fun q8 s9 =>
  ob (L_aliases_37 FU 0 s9) fun q52 s53 =>
  some ((), s53)
def F_alike (x1 : Int64) (x3 : Int64) (σ : TS) : Option (Int64 × TS) :=
  if lg_cmp x1 (-1) = 0 then
    some ((-1), σ)
  else
    if lg_cmp x3 (-1) = 0 then
      some ((-1), σ)
    else
      if lg_cmp x1 (-2) = 0 then
        some (x3, σ)
      else
        if lg_cmp x3 (-2) = 0 then
          some (x1, σ)
        else
          if lg_cmp x1 x3 = 0 then
            some (x1, σ)
          else
            some ((-1), σ)
def F_isWord (x1 : Int64) (σ : TS) : Option (Int32 × TS) :=
  if tI σ 11 = 1 then
    if lg_cmp (tL σ 16) x1 = 0 then
      some (1, σ)
    else
      some (0, σ)
  else
    some (0, σ)
def F_byteAt (x1 : Int32) (σ : TS) : Option (Int32 × TS) :=
  if tI σ 8 ≤ x1 then
    some (0, σ)
  else
    if inb x1 2000 then
    some ((tA σ 5 (ix x1)) &&& 255, σ)
    else none
def F_isWhite (x0 : Int32) (σ : TS) : Option (Int32 × TS) :=
  if x0 = 32 then
    some (1, σ)
  else
    if x0 = 9 then
      some (1, σ)
    else
      if x0 = 10 then
        some (1, σ)
      else
        if x0 = 13 then
          some (1, σ)
        else
          some (0, σ)
def F_isLetter (x0 : Int32) (σ : TS) : Option (Int32 × TS) :=
  if x0 < 97 then
    some (0, σ)
  else
    if 122 < x0 then
      some (0, σ)
    else
      some (1, σ)
def F_isDigit (x0 : Int32) (σ : TS) : Option (Int32 × TS) :=
  if x0 < 48 then
    some (0, σ)
  else
    if 57 < x0 then
      some (0, σ)
    else
      some (1, σ)
def L_isLong_22 : Nat → Nat → Int32 → Int32 → TS → Option ((Unit ⊕ Int32) × TS)
  | 0, _, _, _, _ => none
  | n + 1, x1, x2, x3, σ =>
    if x2 ≤ x3 then
      some (.inl (), σ)
    else
      ob (F_byteAt ((tI σ 12) + x3) σ) fun r4 s3 =>
      if x1 < tsN ∧ inb x3 (tslen x1) then
      if r4 = tsch x1 (ix x3) then
        nm (x3 + 1) fun v8 =>
        L_isLong_22 n x1 x2 v8 s3
      else
        some (.inr 0, s3)
      else none
def F_isLong (x1 : Nat) (σ : TS) : Option (Int32 × TS) :=
  if x1 < tsN then
  nm (nI (tslen x1)) fun v2 =>
  if (tI σ 13) - (tI σ 12) = v2 then
    obS (L_isLong_22 FU x1 v2 0 σ) (fun r15 s12 => some (r15, s12)) fun q11 s12 =>
    some (1, s12)
  else
    some (0, σ)
  else none
def L_readNumeral_7 : Nat → Int32 → Int64 → TS → Option ((Int32 × Int64) × TS)
  | 0, _, _, _ => none
  | n + 1, x1, x2, σ =>
    ob (F_byteAt x1 σ) fun r3 s2 =>
    ob (F_isDigit r3 s2) fun r7 s6 =>
    if r7 = 0 then
      some ((x1, x2), s6)
    else
      if 0 ≤ lg_cmp x2 1000000000 then
        nm (x1 + 1) fun v10 =>
        L_readNumeral_7 n v10 x2 s6
      else
        ob (F_byteAt x1 s6) fun r12 s11 =>
        nm (((10 * x2) + ((r12).toInt64)) - 48) fun v15 =>
        nm (x1 + 1) fun v16 =>
        L_readNumeral_7 n v16 v15 s11
def J_readNumeral_224 (x1 : Int32) (x5 : Int64) (y0 : Int32) (σ : TS) : Option (Unit × TS) :=
  if y0 = 0 then
    nm (tsI σ 11 4) fun s28 =>
    if y0 = 0 then
      nm (tsI s28 15 0) fun s29 =>
      nm (tsI s29 10 x1) fun s30 =>
      some ((), s30)
    else
      nm (tsI s28 15 ((x5).toInt32)) fun s31 =>
      nm (tsI s31 10 x1) fun s32 =>
      some ((), s32)
  else
    nm (tsI σ 11 2) fun s34 =>
    if y0 = 0 then
      nm (tsI s34 15 0) fun s35 =>
      nm (tsI s35 10 x1) fun s36 =>
      some ((), s36)
    else
      nm (tsI s34 15 ((x5).toInt32)) fun s37 =>
      nm (tsI s37 10 x1) fun s38 =>
      some ((), s38)
def J_readNumeral_223 (x1 : Int32) (x5 : Int64) (σ : TS) : Option (Unit × TS) :=
  J_readNumeral_224 x1 x5 0 σ
def J_readNumeral_205 (x1 : Int32) (x4 : Int32) (x5 : Int64) (σ : TS) : Option (Unit × TS) :=
  if x4 = 0 then
    J_readNumeral_223 x1 x5 σ
  else
    if 0 < lg_cmp x5 2147418112 then
      J_readNumeral_223 x1 x5 σ
    else
      J_readNumeral_224 x1 x5 1 σ
def L_readNumeral_119 : Nat → Int32 → Int32 → Int64 → Int32 → Int64 → Int64 → TS → Option ((Int32 × Int64 × Int64) × TS)
  | 0, _, _, _, _, _, _, _ => none
  | n + 1, x1, x4, x5, x7, x8, x10, σ =>
    ob (F_byteAt x1 σ) fun r54 s53 =>
    ob (F_isDigit r54 s53) fun r58 s57 =>
    if r58 = 0 then
      some ((x1, x8, x10), s57)
    else
      if 4 ≤ x1 - x7 then
        nm (x1 + 1) fun v61 =>
        L_readNumeral_119 n v61 x4 x5 x7 x8 x10 s57
      else
        ob (F_byteAt x1 s57) fun r63 s62 =>
        nm (((10 * x8) + ((r63).toInt64)) - 48) fun v66 =>
        nm (x10 * 10) fun v67 =>
        nm (x1 + 1) fun v68 =>
        L_readNumeral_119 n v68 x4 x5 x7 v66 v67 s62
def J_readNumeral_189 (x1 : Int32) (x5 : Int64) (x8 : Int64) (x10 : Int64) (y0 : Int32) (σ : TS) : Option (Unit × TS) :=
  if ¬ x10 = 0 then
  nm (x5 + ((x8 * 65536) / x10)) fun v75 =>
  J_readNumeral_205 x1 y0 v75 σ
  else none
def J_readNumeral_188 (x1 : Int32) (x5 : Int64) (x8 : Int64) (x10 : Int64) (σ : TS) : Option (Unit × TS) :=
  J_readNumeral_189 x1 x5 x8 x10 0 σ
def J_readNumeral_64 (x1 : Int32) (x2 : Int64) (y0 : Int32) (σ : TS) : Option (Unit × TS) :=
  nm (tsI σ 17 1) fun s22 =>
  nm (x2 <<< (((16 : Int32)).toInt64 &&& 63)) fun v23 =>
  ob (F_byteAt x1 s22) fun r25 s24 =>
  if r25 = 46 then
    ob (F_byteAt (x1 + 1) s24) fun r44 s43 =>
    ob (F_isDigit r44 s43) fun r48 s47 =>
    if r48 = 0 then
      J_readNumeral_205 x1 y0 v23 s47
    else
      nm (tsI s47 17 0) fun s51 =>
      nm (x1 + 1) fun v52 =>
      ob (L_readNumeral_119 FU v52 y0 v23 v52 0 1 s51) fun q71 s72 =>
      if y0 = 0 then
        J_readNumeral_188 q71.1 v23 q71.2.1 q71.2.2 s72
      else
        if 4 < q71.1 - v52 then
          J_readNumeral_188 q71.1 v23 q71.2.1 q71.2.2 s72
        else
          J_readNumeral_189 q71.1 v23 q71.2.1 q71.2.2 1 s72
  else
    J_readNumeral_205 x1 y0 v23 s24
def F_readNumeral (σ : TS) : Option (Unit × TS) :=
  nm (tI σ 10) fun v1 =>
  ob (L_readNumeral_7 FU v1 0 σ) fun q19 s20 =>
  if 5 < q19.1 - (tI s20 10) then
    J_readNumeral_64 q19.1 q19.2 0 s20
  else
    J_readNumeral_64 q19.1 q19.2 1 s20
def J_readSign_78 (x1 : Int32) (x2 : Int32) (y0 : Int32) (σ : TS) : Option (Unit × TS) :=
  if y0 = 0 then
    if x1 = 59 then
      some ((), σ)
    else
      if x1 = 44 then
        some ((), σ)
      else
        if x1 = 46 then
          some ((), σ)
        else
          if x1 = 40 then
            some ((), σ)
          else
            if x1 = 41 then
              some ((), σ)
            else
              if x1 = 91 then
                some ((), σ)
              else
                if x1 = 93 then
                  some ((), σ)
                else
                  if x1 = 43 then
                    some ((), σ)
                  else
                    if x1 = 45 then
                      some ((), σ)
                    else
                      if x1 = 42 then
                        some ((), σ)
                      else
                        if x1 = 47 then
                          some ((), σ)
                        else
                          if x1 = 61 then
                            some ((), σ)
                          else
                            if x1 = 58 then
                              some ((), σ)
                            else
                              if x1 = 60 then
                                some ((), σ)
                              else
                                if x1 = 62 then
                                  some ((), σ)
                                else
                                  nm (tsI σ 11 4) fun s8 =>
                                  some ((), s8)
  else
    nm (tsI σ 14 ((x1 <<< (8 &&& 31)) ||| x2)) fun s24 =>
    nm (tsI s24 10 ((tI s24 10) + 1)) fun s25 =>
    some ((), s25)
def J_readSign_77 (x1 : Int32) (x2 : Int32) (σ : TS) : Option (Unit × TS) :=
  J_readSign_78 x1 x2 0 σ
def J_readSign_73 (x1 : Int32) (x2 : Int32) (σ : TS) : Option (Unit × TS) :=
  J_readSign_78 x1 x2 1 σ
def J_readSign_61 (x1 : Int32) (x2 : Int32) (σ : TS) : Option (Unit × TS) :=
  if x1 = 61 then
    if x2 = 61 then
      J_readSign_73 x1 x2 σ
    else
      J_readSign_77 x1 x2 σ
  else
    J_readSign_77 x1 x2 σ
def J_readSign_49 (x1 : Int32) (x2 : Int32) (σ : TS) : Option (Unit × TS) :=
  if x1 = 62 then
    if x2 = 61 then
      J_readSign_73 x1 x2 σ
    else
      J_readSign_61 x1 x2 σ
  else
    J_readSign_61 x1 x2 σ
def F_readSign (x1 : Int32) (σ : TS) : Option (Unit × TS) :=
  nm (tsI σ 11 3) fun s1 =>
  ob (F_byteAt ((tI s1 10) + 1) s1) fun r3 s2 =>
  nm (tsI s2 14 x1) fun s6 =>
  nm (tsI s6 10 ((tI s6 10) + 1)) fun s7 =>
  if x1 = 60 then
    if r3 = 61 then
      J_readSign_73 x1 r3 s7
    else
      if r3 = 62 then
        J_readSign_73 x1 r3 s7
      else
        J_readSign_49 x1 r3 s7
  else
    J_readSign_49 x1 r3 s7
def L_next_0 : Nat → TS → Option (Unit × TS)
  | 0, _ => none
  | n + 1, σ =>
    if tI σ 8 ≤ tI σ 10 then
      some ((), σ)
    else
      ob (F_byteAt (tI σ 10) σ) fun r2 s1 =>
      ob (F_isWhite r2 s1) fun r6 s5 =>
      if r6 = 0 then
        some ((), s5)
      else
        nm (tsI s5 10 ((tI s5 10) + 1)) fun s9 =>
        L_next_0 n s9
def J_next_321 (σ : TS) : Option (Unit × TS) :=
  nm (tsI σ 13 (tI σ 10)) fun s33 =>
  if tI s33 11 = 4 then
    some ((), s33)
  else
    if (tI s33 19) + (tI s33 18) = 6001 then
      nm (tsI s33 21 (tI s33 12)) fun s34 =>
      some ((), s34)
    else
      some ((), s33)
def L_next_102 : Nat → Int32 → TS → Option (Int32 × TS)
  | 0, _, _ => none
  | n + 1, x2, σ =>
    ob (F_byteAt x2 σ) fun r44 s43 =>
    ob (F_isLetter r44 s43) fun r48 s47 =>
    if r48 = 0 then
      ob (F_byteAt x2 s47) fun r53 s52 =>
      ob (F_isDigit r53 s52) fun r57 s56 =>
      if r57 = 0 then
        ob (F_byteAt x2 s56) fun r62 s61 =>
        if r62 = 95 then
          nm (x2 + 1) fun v65 =>
          L_next_102 n v65 s61
        else
          some (x2, s61)
      else
        nm (x2 + 1) fun v60 =>
        L_next_102 n v60 s56
    else
      nm (x2 + 1) fun v51 =>
      L_next_102 n v51 s47
def L_next_155 : Nat → Int32 → Int32 → TS → Option (Unit × TS)
  | 0, _, _, _ => none
  | n + 1, x2, x3, σ =>
    if x2 ≤ x3 then
      some ((), σ)
    else
      if (tI σ 10) + 8 ≤ x3 then
        some ((), σ)
      else
        ob (F_byteAt x3 σ) fun r76 s75 =>
        nm (tsL s75 16 (((tL σ 16) <<< (((8 : Int32)).toInt64 &&& 63)) ||| ((r76).toInt64))) fun s79 =>
        nm (x3 + 1) fun v80 =>
        L_next_155 n x2 v80 s79
def J_next_294 (x2 : Int32) (σ : TS) : Option (Unit × TS) :=
  nm (tsI σ 10 x2) fun s86 =>
  J_next_321 s86
def J_next_277 (x2 : Int32) (y1 : Int64) (σ : TS) : Option (Unit × TS) :=
  nm (tsL σ 16 y1) fun s104 =>
  if lg_cmp (tL s104 16) 0 = 0 then
    nm (tsI s104 11 4) fun s105 =>
    J_next_294 x2 s105
  else
    J_next_294 x2 s104
def J_next_195 (x2 : Int32) (σ : TS) : Option (Unit × TS) :=
  if x2 - (tI σ 10) ≤ 8 then
    J_next_294 x2 σ
  else
    nm (tsI σ 13 x2) fun s87 =>
    ob (F_isLong 0 s87) fun r89 s88 =>
    if r89 = 0 then
      ob (F_isLong 1 s88) fun r93 s92 =>
      if r93 = 0 then
        ob (F_isLong 2 s92) fun r97 s96 =>
        if r97 = 0 then
          ob (F_isLong 3 s96) fun r101 s100 =>
          if r101 = 0 then
            J_next_277 x2 0 s100
          else
            J_next_277 x2 (-13) s100
        else
          J_next_277 x2 (-12) s96
      else
        J_next_277 x2 (-11) s92
    else
      J_next_277 x2 (-10) s88
def J_next_38 (σ : TS) : Option (Unit × TS) :=
  nm (tsI σ 12 (tI σ 10)) fun s15 =>
  nm (tsI s15 18 ((tI s15 18) + 1)) fun s16 =>
  if tI s16 10 = tI s16 8 then
    nm (tsI s16 11 0) fun s115 =>
    nm (tsI s115 13 (tI s115 10)) fun s116 =>
    some ((), s116)
  else
    ob (F_byteAt (tI s16 10) s16) fun r18 s17 =>
    ob (F_isLetter r18 s17) fun r22 s21 =>
    if r22 = 0 then
      ob (F_isDigit r18 s21) fun r26 s25 =>
      if r26 = 0 then
        ob (F_readSign r18 s25) fun r30 s29 =>
        J_next_321 s29
      else
        ob (F_readNumeral s25) fun r38 s37 =>
        J_next_321 s37
    else
      nm (tI s21 10) fun v42 =>
      ob (L_next_102 FU v42 s21) fun q69 s70 =>
      nm (tsI s70 11 1) fun s72 =>
      nm (tsL s72 16 0) fun s73 =>
      nm (tI s73 10) fun v74 =>
      ob (L_next_155 FU q69 v74 s73) fun q83 s84 =>
      J_next_195 q69 s84
def F_next (σ : TS) : Option (Unit × TS) :=
  ob (L_next_0 FU σ) fun q12 s13 =>
  J_next_38 s13
def F_node (x1 : Int32) (x2 : Int32) (x3 : Int32) (x4 : Int32) (σ : TS) : Option (Int32 × TS) :=
  if tI σ 28 = 9000 then
    some (0, σ)
  else
    if inb (tI σ 28) 9000 then
    nm (tsA σ 24 (ix (tI σ 28)) x1) fun s2 =>
    if inb (tI s2 28) 9000 then
    nm (tsA s2 25 (ix (tI s2 28)) x2) fun s4 =>
    if inb (tI s4 28) 9000 then
    nm (tsA s4 26 (ix (tI s4 28)) x3) fun s6 =>
    if inb (tI s6 28) 9000 then
    nm (tsA s6 27 (ix (tI s6 28)) x4) fun s8 =>
    nm (tsI s8 28 ((tI s8 28) + 1)) fun s9 =>
    some ((tI s9 28) - 1, s9)
    else none
    else none
    else none
    else none
def F_isSign (x1 : Int32) (σ : TS) : Option (Int32 × TS) :=
  if tI σ 11 = 3 then
    if tI σ 14 = x1 then
      some (1, σ)
    else
      some (0, σ)
  else
    some (0, σ)
def F_deeper (σ : TS) : Option (Unit × TS) :=
  if tI σ 20 = 16 then
    ob (F_bad 7 (tI σ 12) σ) fun r3 s2 =>
    nm (tsI s2 20 ((tI s2 20) + 1)) fun s6 =>
    some ((), s6)
  else
    nm (tsI σ 20 ((tI σ 20) + 1)) fun s1 =>
    some ((), s1)
def F_cantStand (σ : TS) : Option (Unit × TS) :=
  if tI σ 11 = 4 then
    ob (F_bad 1 (tI σ 12) σ) fun r6 s5 =>
    some ((), s5)
  else
    ob (F_bad 2 (tI σ 12) σ) fun r2 s1 =>
    some ((), s1)
def F_pass (x1 : Int32) (σ : TS) : Option (Unit × TS) :=
  ob (F_isBad σ) fun r2 s1 =>
  if r2 = 0 then
    ob (F_isSign x1 s1) fun r6 s5 =>
    if r6 = 0 then
      ob (F_cantStand s5) fun r14 s13 =>
      some ((), s13)
    else
      ob (F_next s5) fun r10 s9 =>
      some ((), s9)
  else
    some ((), s1)
def F_sampleNumber (x1 : Int32) (σ : TS) : Option (Int32 × TS) :=
  ob (F_isBad σ) fun r2 s1 =>
  if r2 = 0 then
    if tI s1 11 = 2 then
      if x1 ≤ tI s1 15 then
        nm (tI s1 15) fun v9 =>
        ob (F_next s1) fun r11 s10 =>
        some (v9, s10)
      else
        ob (F_cantStand s1) fun r15 s14 =>
        some (0, s14)
    else
      ob (F_cantStand s1) fun r6 s5 =>
      some (0, s5)
  else
    some (0, s1)
def J_sample_24 (σ : TS) : Option (Int32 × TS) :=
  ob (F_pass 40 σ) fun r10 s9 =>
  ob (F_sampleNumber 0 s9) fun r14 s13 =>
  ob (F_pass 44 s13) fun r18 s17 =>
  ob (F_sampleNumber 1 s17) fun r22 s21 =>
  ob (F_pass 41 s21) fun r26 s25 =>
  nm (tsI s25 20 ((tI s25 20) - 1)) fun s29 =>
  ob (F_node 24 r14 r22 0 s29) fun r31 s30 =>
  some (r31, s30)
def F_sample (σ : TS) : Option (Int32 × TS) :=
  ob (F_next σ) fun r2 s1 =>
  ob (F_isBad s1) fun r6 s5 =>
  if r6 = 0 then
    ob (F_isSign 40 s5) fun r35 s34 =>
    if r35 = 0 then
      J_sample_24 s34
    else
      ob (F_deeper s34) fun r39 s38 =>
      J_sample_24 s38
  else
    J_sample_24 s5
def F_isRelation (σ : TS) : Option (Int32 × TS) :=
  if tI σ 11 = 3 then
    if tI σ 14 = 60 then
      some (1, σ)
    else
      if tI σ 14 = 62 then
        some (1, σ)
      else
        if tI σ 14 = 15421 then
          some (1, σ)
        else
          if tI σ 14 = 15933 then
            some (1, σ)
          else
            if tI σ 14 = 15677 then
              some (1, σ)
            else
              if tI σ 14 = 15422 then
                some (1, σ)
              else
                some (0, σ)
  else
    some (0, σ)
def L_isGroup_24 : Nat → Int32 → Int32 → Int32 → Int32 → Int32 → TS → Option (Unit × TS)
  | 0, _, _, _, _, _, _ => none
  | n + 1, x1, x2, x3, x4, x5, σ =>
    if x5 ≤ 0 then
      some ((), σ)
    else
      if tI σ 11 = 0 then
        some ((), σ)
      else
        if tI σ 11 = 4 then
          some ((), σ)
        else
          ob (F_next σ) fun r6 s5 =>
          ob (F_isSign 40 s5) fun r10 s9 =>
          if r10 = 0 then
            ob (F_isSign 41 s9) fun r14 s13 =>
            if r14 = 0 then
              L_isGroup_24 n x1 x2 x3 x4 x5 s13
            else
              nm (x5 + (-1)) fun v17 =>
              L_isGroup_24 n x1 x2 x3 x4 v17 s13
          else
            nm (x5 + 1) fun v19 =>
            ob (F_isSign 41 s9) fun r21 s20 =>
            if r21 = 0 then
              L_isGroup_24 n x1 x2 x3 x4 v19 s20
            else
              nm (v19 + (-1)) fun v24 =>
              L_isGroup_24 n x1 x2 x3 x4 v24 s20
def J_isGroup_156 (x1 : Int32) (x2 : Int32) (x3 : Int32) (x4 : Int32) (x6 : Int32) (σ : TS) : Option (Int32 × TS) :=
  nm (tsI σ 10 x1) fun s33 =>
  nm (tsI s33 12 x2) fun s34 =>
  nm (tsI s34 13 x3) fun s35 =>
  nm (tsI s35 18 x4) fun s36 =>
  nm (tsI s36 11 3) fun s37 =>
  nm (tsI s37 14 40) fun s38 =>
  some (x6, s38)
def J_isGroup_154 (x1 : Int32) (x2 : Int32) (x3 : Int32) (x4 : Int32) (y0 : Int32) (σ : TS) : Option (Int32 × TS) :=
  J_isGroup_156 x1 x2 x3 x4 y0 σ
def J_isGroup_153 (x1 : Int32) (x2 : Int32) (x3 : Int32) (x4 : Int32) (σ : TS) : Option (Int32 × TS) :=
  J_isGroup_154 x1 x2 x3 x4 0 σ
def J_isGroup_95 (x1 : Int32) (x2 : Int32) (x3 : Int32) (x4 : Int32) (y0 : Int32) (σ : TS) : Option (Int32 × TS) :=
  if y0 = 0 then
    J_isGroup_156 x1 x2 x3 x4 y0 σ
  else
    ob (F_next σ) fun r40 s39 =>
    ob (F_isRelation s39) fun r44 s43 =>
    if r44 = 0 then
      ob (F_isSign 43 s43) fun r48 s47 =>
      if r48 = 0 then
        ob (F_isSign 45 s47) fun r52 s51 =>
        if r52 = 0 then
          ob (F_isSign 42 s51) fun r56 s55 =>
          if r56 = 0 then
            ob (F_isSign 47 s55) fun r60 s59 =>
            if r60 = 0 then
              J_isGroup_154 x1 x2 x3 x4 1 s59
            else
              J_isGroup_153 x1 x2 x3 x4 s59
          else
            J_isGroup_153 x1 x2 x3 x4 s55
        else
          J_isGroup_153 x1 x2 x3 x4 s51
      else
        J_isGroup_153 x1 x2 x3 x4 s47
    else
      J_isGroup_153 x1 x2 x3 x4 s43
def J_isGroup_94 (x1 : Int32) (x2 : Int32) (x3 : Int32) (x4 : Int32) (σ : TS) : Option (Int32 × TS) :=
  J_isGroup_95 x1 x2 x3 x4 0 σ
def J_isGroup_75 (x1 : Int32) (x2 : Int32) (x3 : Int32) (x4 : Int32) (σ : TS) : Option (Int32 × TS) :=
  if tI σ 11 = 0 then
    J_isGroup_94 x1 x2 x3 x4 σ
  else
    if tI σ 11 = 4 then
      J_isGroup_94 x1 x2 x3 x4 σ
    else
      J_isGroup_95 x1 x2 x3 x4 1 σ
def F_isGroup (σ : TS) : Option (Int32 × TS) :=
  nm (tI σ 10) fun v1 =>
  nm (tI σ 12) fun v2 =>
  nm (tI σ 13) fun v3 =>
  nm (tI σ 18) fun v4 =>
  ob (L_isGroup_24 FU v1 v2 v3 v4 1 σ) fun q30 s31 =>
  J_isGroup_75 v1 v2 v3 v4 s31
def F_passWord (x1 : Int64) (σ : TS) : Option (Unit × TS) :=
  ob (F_isBad σ) fun r2 s1 =>
  if r2 = 0 then
    ob (F_isWord x1 s1) fun r6 s5 =>
    if r6 = 0 then
      ob (F_cantStand s5) fun r14 s13 =>
      some ((), s13)
    else
      ob (F_next s5) fun r10 s9 =>
      some ((), s9)
  else
    some ((), s1)
def L_isKey_13 : Nat → Int32 → TS → Option ((Unit ⊕ Int32) × TS)
  | 0, _, _ => none
  | n + 1, x1, σ =>
    if tI σ 22 ≤ x1 then
      some (.inl (), σ)
    else
      if inb x1 48 then
      if lg_cmp (tB σ 23 (ix x1)) (tL σ 16) = 0 then
        some (.inr 1, σ)
      else
        nm (x1 + 1) fun v2 =>
        L_isKey_13 n v2 σ
      else none
def F_isKey (σ : TS) : Option (Int32 × TS) :=
  if 0 ≤ lg_cmp (tL σ 16) 0 then
    obS (L_isKey_13 FU 0 σ) (fun r9 s6 => some (r9, s6)) fun q5 s6 =>
    some (0, s6)
  else
    some (1, σ)
def F_isName (σ : TS) : Option (Int32 × TS) :=
  if tI σ 11 = 1 then
    ob (F_isKey σ) fun r2 s1 =>
    if r2 = 0 then
      some (1, s1)
    else
      some (0, s1)
  else
    some (0, σ)
def F_passName (σ : TS) : Option (Int64 × TS) :=
  ob (F_isBad σ) fun r2 s1 =>
  if r2 = 0 then
    ob (F_isName s1) fun r6 s5 =>
    if r6 = 0 then
      ob (F_cantStand s5) fun r15 s14 =>
      some (0, s14)
    else
      nm (tL s5 16) fun v9 =>
      ob (F_next s5) fun r11 s10 =>
      some (v9, s10)
  else
    some (0, s1)
def J_newPart_20 (x1 : Int64) (σ : TS) : Option (Int32 × TS) :=
  if inb (tI σ 34) 7000 then
  nm (tsB σ 29 (ix (tI σ 34)) x1) fun s2 =>
  if inb (tI s2 34) 7000 then
  nm (tsA s2 31 (ix (tI s2 34)) 0) fun s4 =>
  if inb (tI s4 34) 7000 then
  nm (tsA s4 32 (ix (tI s4 34)) 0) fun s6 =>
  if inb (tI s6 34) 7000 then
  nm (tsB s6 30 (ix (tI s6 34)) 0) fun s8 =>
  if inb (tI s8 34) 7000 then
  nm (tsA s8 33 (ix (tI s8 34)) 0) fun s10 =>
  nm (tsI s10 34 ((tI s10 34) + 1)) fun s11 =>
  some ((tI s11 34) - 1, s11)
  else none
  else none
  else none
  else none
  else none
def F_newPart (x1 : Int64) (σ : TS) : Option (Int32 × TS) :=
  if tI σ 34 = 7000 then
    nm (tsI σ 34 ((tI σ 34) - 1)) fun s12 =>
    J_newPart_20 x1 s12
  else
    J_newPart_20 x1 σ
def F_passWhole (x1 : Int32) (σ : TS) : Option (Int32 × TS) :=
  ob (F_isBad σ) fun r2 s1 =>
  if r2 = 0 then
    if tI s1 11 = 2 then
      if tI s1 17 = 0 then
        ob (F_cantStand s1) fun r11 s10 =>
        some (0, s10)
      else
        if (tI s1 15) >>> (16 &&& 31) ≤ x1 then
          nm ((tI s1 15) >>> (16 &&& 31)) fun v14 =>
          ob (F_next s1) fun r16 s15 =>
          some (v14, s15)
        else
          ob (F_cantStand s1) fun r20 s19 =>
          some (0, s19)
    else
      ob (F_cantStand s1) fun r6 s5 =>
      some (0, s5)
  else
    some (0, s1)
def L_isFor_2 : Nat → Int64 → Int32 → TS → Option ((Unit ⊕ Int32) × TS)
  | 0, _, _, _ => none
  | n + 1, x1, x3, σ =>
    if tI σ 37 ≤ x3 then
      some (.inl (), σ)
    else
      if inb x3 20 then
      if lg_cmp (tB σ 35 (ix x3)) x1 = 0 then
        some (.inr 1, σ)
      else
        nm (x3 + 1) fun v2 =>
        L_isFor_2 n x1 v2 σ
      else none
def F_isFor (x1 : Int64) (σ : TS) : Option (Int32 × TS) :=
  obS (L_isFor_2 FU x1 0 σ) (fun r9 s6 => some (r9, s6)) fun q5 s6 =>
  some (0, s6)
def J_index_123 (x1 : Int32) (y0 : Int32) (σ : TS) : Option (Unit × TS) :=
  ob (F_next σ) fun r50 s49 =>
  ob (F_passWhole 32767 s49) fun r54 s53 =>
  if y0 = 0 then
    if inb x1 7000 then
    nm (tsA s53 32 (ix x1) r54) fun s58 =>
    ob (F_pass 93 s58) fun r60 s59 =>
    some ((), s59)
    else none
  else
    if inb x1 7000 then
    nm (tsA s53 32 (ix x1) (-r54)) fun s64 =>
    ob (F_pass 93 s64) fun r66 s65 =>
    some ((), s65)
    else none
def J_index_109 (x1 : Int32) (σ : TS) : Option (Unit × TS) :=
  if tI σ 14 = 45 then
    J_index_123 x1 1 σ
  else
    J_index_123 x1 0 σ
def F_index (x1 : Int32) (σ : TS) : Option (Unit × TS) :=
  ob (F_isBad σ) fun r2 s1 =>
  if r2 = 0 then
    ob (F_isSign 91 s1) fun r6 s5 =>
    if r6 = 0 then
      some ((), s5)
    else
      ob (F_next s5) fun r10 s9 =>
      if tI s9 11 = 2 then
        if inb x1 7000 then
        nm (tsA s9 31 (ix x1) 1) fun s84 =>
        ob (F_passWhole 32767 s84) fun r86 s85 =>
        if inb x1 7000 then
        nm (tsA s85 32 (ix x1) r86) fun s90 =>
        ob (F_pass 93 s90) fun r92 s91 =>
        some ((), s91)
        else none
        else none
      else
        ob (F_isName s9) fun r14 s13 =>
        if r14 = 0 then
          ob (F_cantStand s13) fun r18 s17 =>
          ob (F_pass 93 s17) fun r22 s21 =>
          some ((), s21)
        else
          ob (F_isFor (tL s13 16) s13) fun r26 s25 =>
          if r26 = 0 then
            ob (F_cantStand s25) fun r30 s29 =>
            ob (F_pass 93 s29) fun r34 s33 =>
            some ((), s33)
          else
            if inb x1 7000 then
            nm (tsA s25 31 (ix x1) 2) fun s38 =>
            if inb x1 7000 then
            nm (tsB s38 30 (ix x1) (tL s38 16)) fun s40 =>
            ob (F_next s40) fun r42 s41 =>
            ob (F_isSign 43 s41) fun r46 s45 =>
            if r46 = 0 then
              ob (F_isSign 45 s45) fun r72 s71 =>
              if r72 = 0 then
                ob (F_pass 93 s71) fun r76 s75 =>
                some ((), s75)
              else
                J_index_109 x1 s71
            else
              J_index_109 x1 s45
            else none
            else none
  else
    some ((), s1)
def L_refFrom_15 : Nat → Int32 → Int32 → TS → Option (Unit × TS)
  | 0, _, _, _ => none
  | n + 1, x3, x4, σ =>
    ob (F_isBad σ) fun r10 s9 =>
    if r10 = 0 then
      ob (F_isSign 46 s9) fun r14 s13 =>
      if r14 = 0 then
        some ((), s13)
      else
        ob (F_next s13) fun r18 s17 =>
        ob (F_passName s17) fun r22 s21 =>
        ob (F_newPart r22 s21) fun r26 s25 =>
        if inb x4 7000 then
        nm (tsA s25 33 (ix x4) r26) fun s30 =>
        ob (F_index r26 s30) fun r32 s31 =>
        L_refFrom_15 n x3 r26 s31
        else none
    else
      some ((), s9)
def F_refFrom (x1 : Int64) (σ : TS) : Option (Int32 × TS) :=
  ob (F_newPart x1 σ) fun r2 s1 =>
  ob (F_index r2 s1) fun r6 s5 =>
  ob (L_refFrom_15 FU r2 r2 s5) fun q37 s38 =>
  some (r2, s38)
def F_ref (σ : TS) : Option (Int32 × TS) :=
  ob (F_passName σ) fun r2 s1 =>
  ob (F_isBad s1) fun r6 s5 =>
  if r6 = 0 then
    ob (F_refFrom r2 s5) fun r10 s9 =>
    some (r10, s9)
  else
    some (0, s5)
def L_function_2 : Nat → Int64 → Int32 → TS → Option ((Unit ⊕ Int32) × TS)
  | 0, _, _, _ => none
  | n + 1, x1, x3, σ =>
    if tI σ 48 ≤ x3 then
      some (.inl (), σ)
    else
      if inb x3 12 then
      if lg_cmp (tB σ 40 (ix x3)) x1 = 0 then
        some (.inr x3, σ)
      else
        nm (x3 + 1) fun v2 =>
        L_function_2 n x1 v2 σ
      else none
def F_function (x1 : Int64) (σ : TS) : Option (Int32 × TS) :=
  obS (L_function_2 FU x1 0 σ) (fun r9 s6 => some (r9, s6)) fun q5 s6 =>
  some ((-1), s6)
def L_formal_2 : Nat → Int64 → Int32 → TS → Option ((Unit ⊕ Int32) × TS)
  | 0, _, _, _ => none
  | n + 1, x1, x3, σ =>
    if tI σ 38 ≤ x3 then
      some (.inl (), σ)
    else
      if inb x3 4 then
      if lg_cmp (tB σ 36 (ix x3)) x1 = 0 then
        some (.inr x3, σ)
      else
        nm (x3 + 1) fun v2 =>
        L_formal_2 n x1 v2 σ
      else none
def F_formal (x1 : Int64) (σ : TS) : Option (Int32 × TS) :=
  obS (L_formal_2 FU x1 0 σ) (fun r9 s6 => some (r9, s6)) fun q5 s6 =>
  some ((-1), s6)
