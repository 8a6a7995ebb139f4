set_option maxRecDepth 100000
def F_name (x1 : Int32) (σ : TS) : Option (Int32 × TS) :=
  if tI σ 108 = 0 then
    some ((-4), σ)
  else
    ob (F_isVariable x1 σ) fun r3 s2 =>
    if r3 = 0 then
      some ((-2), s2)
    else
      nm (tsI s2 9 0) fun s6 =>
      nm (tsI s6 176 0) fun s7 =>
      ob (F_printVariable x1 s7) fun r9 s8 =>
      some (tI s8 9, s8)
def L_nextSize_8 : Nat → Int64 → Int32 → TS → Option (Int64 × TS)
  | 0, _, _, _ => none
  | n + 1, x1, x3, σ =>
    if tI σ 154 ≤ x3 then
      some (x1, σ)
    else
      if inb x3 24 then
      if inb (tA σ 153 (ix x3)) 70000 then
      if tA σ 121 (ix (tA σ 153 (ix x3))) = 24 then
        if inb x3 24 then
        if inb (tA σ 153 (ix x3)) 70000 then
        nm ((tA σ 122 (ix (tA σ 153 (ix x3)))).toInt64) fun v6 =>
        if inb x3 24 then
        if inb (tA σ 153 (ix x3)) 70000 then
        nm ((tA σ 123 (ix (tA σ 153 (ix x3)))).toInt64) fun v9 =>
        if 0 ≤ lg_cmp ((tI σ 165).toInt64) v6 then
          if ¬ v9 = 0 then
          nm (v6 + ((((((tI σ 165).toInt64) - v6) / v9) + 1) * v9)) fun v11 =>
          nm (mminL x1 (v11 - ((tI σ 165).toInt64))) fun v12 =>
          nm (x3 + 1) fun v13 =>
          L_nextSize_8 n v12 v13 σ
          else none
        else
          nm (mminL x1 (v6 - ((tI σ 165).toInt64))) fun v14 =>
          nm (x3 + 1) fun v15 =>
          L_nextSize_8 n v14 v15 σ
        else none
        else none
        else none
        else none
      else
        nm (x3 + 1) fun v17 =>
        L_nextSize_8 n x1 v17 σ
      else none
      else none
def F_nextSize (σ : TS) : Option (Int32 × TS) :=
  nm ((tI σ 224).toInt64) fun v1 =>
  ob (L_nextSize_8 FU v1 0 σ) fun q20 s21 =>
  some ((q20).toInt32, s21)
def F_octet (x1 : Int32) (σ : TS) : Option (Int32 × TS) :=
  if x1 = (-1) then
    some (tI σ 9, σ)
  else
    if x1 < 0 then
      some ((-2), σ)
    else
      if x1 < tI σ 9 then
        if inb x1 2200 then
        some ((tA σ 6 (ix x1)) &&& 255, σ)
        else none
      else
        some ((-2), σ)
def L_rates_241_14 : Nat → Int32 → TS → Option (Unit × TS)
  | 0, _, _ => none
  | n + 1, x2, σ =>
    if tI σ 198 ≤ x2 then
      some ((), σ)
    else
      if inb x2 200 then
      if inb (tA σ 207 (ix x2)) 200 then
      if inb (tA σ 189 (ix (tA σ 207 (ix x2)))) 200 then
      if inb x2 200 then
      nm (tsA σ 241 (ix x2) (tA σ 166 (ix (tA σ 189 (ix (tA σ 207 (ix x2))))))) fun s13 =>
      nm (x2 + 1) fun v14 =>
      L_rates_241_14 n v14 s13
      else none
      else none
      else none
      else none
def F_rates_241 (σ : TS) : Option (Unit × TS) :=
  ob (F_isBad σ) fun r2 s1 =>
  if r2 = 0 then
    ob (F_solveBlocks s1) fun r6 s5 =>
    ob (L_rates_241_14 FU 0 s5) fun q16 s17 =>
    some ((), s17)
  else
    some ((), s1)
def L_rates_242_14 : Nat → Int32 → TS → Option (Unit × TS)
  | 0, _, _ => none
  | n + 1, x2, σ =>
    if tI σ 198 ≤ x2 then
      some ((), σ)
    else
      if inb x2 200 then
      if inb (tA σ 207 (ix x2)) 200 then
      if inb (tA σ 189 (ix (tA σ 207 (ix x2)))) 200 then
      if inb x2 200 then
      nm (tsA σ 242 (ix x2) (tA σ 166 (ix (tA σ 189 (ix (tA σ 207 (ix x2))))))) fun s13 =>
      nm (x2 + 1) fun v14 =>
      L_rates_242_14 n v14 s13
      else none
      else none
      else none
      else none
def F_rates_242 (σ : TS) : Option (Unit × TS) :=
  ob (F_isBad σ) fun r2 s1 =>
  if r2 = 0 then
    ob (F_solveBlocks s1) fun r6 s5 =>
    ob (L_rates_242_14 FU 0 s5) fun q16 s17 =>
    some ((), s17)
  else
    some ((), s1)
def L_rates_243_14 : Nat → Int32 → TS → Option (Unit × TS)
  | 0, _, _ => none
  | n + 1, x2, σ =>
    if tI σ 198 ≤ x2 then
      some ((), σ)
    else
      if inb x2 200 then
      if inb (tA σ 207 (ix x2)) 200 then
      if inb (tA σ 189 (ix (tA σ 207 (ix x2)))) 200 then
      if inb x2 200 then
      nm (tsA σ 243 (ix x2) (tA σ 166 (ix (tA σ 189 (ix (tA σ 207 (ix x2))))))) fun s13 =>
      nm (x2 + 1) fun v14 =>
      L_rates_243_14 n v14 s13
      else none
      else none
      else none
      else none
def F_rates_243 (σ : TS) : Option (Unit × TS) :=
  ob (F_isBad σ) fun r2 s1 =>
  if r2 = 0 then
    ob (F_solveBlocks s1) fun r6 s5 =>
    ob (L_rates_243_14 FU 0 s5) fun q16 s17 =>
    some ((), s17)
  else
    some ((), s1)
def L_rates_244_14 : Nat → Int32 → TS → Option (Unit × TS)
  | 0, _, _ => none
  | n + 1, x2, σ =>
    if tI σ 198 ≤ x2 then
      some ((), σ)
    else
      if inb x2 200 then
      if inb (tA σ 207 (ix x2)) 200 then
      if inb (tA σ 189 (ix (tA σ 207 (ix x2)))) 200 then
      if inb x2 200 then
      nm (tsA σ 244 (ix x2) (tA σ 166 (ix (tA σ 189 (ix (tA σ 207 (ix x2))))))) fun s13 =>
      nm (x2 + 1) fun v14 =>
      L_rates_244_14 n v14 s13
      else none
      else none
      else none
      else none
def F_rates_244 (σ : TS) : Option (Unit × TS) :=
  ob (F_isBad σ) fun r2 s1 =>
  if r2 = 0 then
    ob (F_solveBlocks s1) fun r6 s5 =>
    ob (L_rates_244_14 FU 0 s5) fun q16 s17 =>
    some ((), s17)
  else
    some ((), s1)
def L_step_7 : Nat → Int32 → Int32 → Int32 → TS → Option (Unit × TS)
  | 0, _, _, _, _ => none
  | n + 1, x1, x2, x3, σ =>
    if tI σ 198 ≤ x3 then
      some ((), σ)
    else
      if inb x3 200 then
      if inb (tA σ 207 (ix x3)) 200 then
      if inb x3 200 then
      nm (tsA σ 240 (ix x3) (tA σ 166 (ix (tA σ 207 (ix x3))))) fun s5 =>
      nm (x3 + 1) fun v6 =>
      L_step_7 n x1 x2 v6 s5
      else none
      else none
      else none
def L_step_433 : Nat → Int32 → Int32 → Int32 → TS → Option (Unit × TS)
  | 0, _, _, _, _ => none
  | n + 1, x1, x2, x3, σ =>
    if 8 ≤ x3 then
      some ((), σ)
    else
      ob (F_rates_242 σ) fun r35 s34 =>
      ob (F_move_242 x1 s34) fun r39 s38 =>
      nm (x3 + 1) fun v42 =>
      L_step_433 n x1 x2 v42 s38
def J_step_363_175 (rec : Int32 → Int32 → Int32 → TS → Option (Unit × TS)) (x1 : Int32) (x2 : Int32) (x3 : Int32) (y0 : Int32) (σ : TS) : Option (Unit × TS) :=
  ob (F_isBad σ) fun r148 s147 =>
  if r148 = 0 then
    if inb x3 200 then
    if inb x3 200 then
    ob (F_fit (((tA s147 240 (ix x3)).toInt64) + ((y0).toInt64)) s147) fun r155 s154 =>
    if inb (tA s147 207 (ix x3)) 200 then
    nm (tsA s154 166 (ix (tA s147 207 (ix x3))) r155) fun s159 =>
    nm (x3 + 1) fun v160 =>
    rec x1 x2 v160 s159
    else none
    else none
    else none
  else
    nm (x3 + 1) fun v151 =>
    rec x1 x2 v151 s147
def J_step_341_175 (rec : Int32 → Int32 → Int32 → TS → Option (Unit × TS)) (x1 : Int32) (x2 : Int32) (x3 : Int32) (y0 : Int32) (σ : TS) : Option (Unit × TS) :=
  ob (F_isBad σ) fun r140 s139 =>
  if r140 = 0 then
    ob (F_over y0 393216 s139) fun r144 s143 =>
    J_step_363_175 rec x1 x2 x3 r144 s143
  else
    J_step_363_175 rec x1 x2 x3 0 s139
def J_step_321_175 (rec : Int32 → Int32 → Int32 → TS → Option (Unit × TS)) (x1 : Int32) (x2 : Int32) (x3 : Int32) (y0 : Int32) (σ : TS) : Option (Unit × TS) :=
  ob (F_isBad σ) fun r132 s131 =>
  if r132 = 0 then
    ob (F_times x1 y0 s131) fun r136 s135 =>
    J_step_341_175 rec x1 x2 x3 r136 s135
  else
    J_step_341_175 rec x1 x2 x3 0 s131
def J_step_293_175 (rec : Int32 → Int32 → Int32 → TS → Option (Unit × TS)) (x1 : Int32) (x2 : Int32) (x3 : Int32) (y0 : Int32) (σ : TS) : Option (Unit × TS) :=
  ob (F_isBad σ) fun r123 s122 =>
  if r123 = 0 then
    if inb x3 200 then
    ob (F_fit (((y0).toInt64) + ((tA s122 244 (ix x3)).toInt64)) s122) fun r128 s127 =>
    J_step_321_175 rec x1 x2 x3 r128 s127
    else none
  else
    J_step_321_175 rec x1 x2 x3 0 s122
def J_step_269_175 (rec : Int32 → Int32 → Int32 → TS → Option (Unit × TS)) (x1 : Int32) (x2 : Int32) (x3 : Int32) (x5 : Int32) (y0 : Int32) (σ : TS) : Option (Unit × TS) :=
  ob (F_isBad σ) fun r115 s114 =>
  if r115 = 0 then
    ob (F_fit (((x5).toInt64) + ((y0).toInt64)) s114) fun r119 s118 =>
    J_step_293_175 rec x1 x2 x3 r119 s118
  else
    J_step_293_175 rec x1 x2 x3 0 s114
def J_step_237_175 (rec : Int32 → Int32 → Int32 → TS → Option (Unit × TS)) (x1 : Int32) (x2 : Int32) (x3 : Int32) (y0 : Int32) (σ : TS) : Option (Unit × TS) :=
  ob (F_isBad σ) fun r105 s104 =>
  if r105 = 0 then
    if inb x3 200 then
    if inb x3 200 then
    ob (F_fit (((tA s104 243 (ix x3)).toInt64) + ((tA s104 243 (ix x3)).toInt64)) s104) fun r111 s110 =>
    J_step_269_175 rec x1 x2 x3 y0 r111 s110
    else none
    else none
  else
    J_step_269_175 rec x1 x2 x3 y0 0 s104
def L_step_175 : Nat → Int32 → Int32 → Int32 → TS → Option (Unit × TS)
  | 0, _, _, _, _ => none
  | n + 1, x1, x2, x3, σ =>
    if tI σ 198 ≤ x3 then
      some ((), σ)
    else
      ob (F_isBad σ) fun r86 s85 =>
      if r86 = 0 then
        if inb x3 200 then
        if inb x3 200 then
        ob (F_fit (((tA s85 242 (ix x3)).toInt64) + ((tA s85 242 (ix x3)).toInt64)) s85) fun r92 s91 =>
        ob (F_isBad s91) fun r96 s95 =>
        if r96 = 0 then
          if inb x3 200 then
          ob (F_fit (((tA s95 241 (ix x3)).toInt64) + ((r92).toInt64)) s95) fun r101 s100 =>
          J_step_237_175 (L_step_175 n) x1 x2 x3 r101 s100
          else none
        else
          J_step_237_175 (L_step_175 n) x1 x2 x3 0 s95
        else none
        else none
      else
        some ((), s85)
def F_step (x1 : Int32) (σ : TS) : Option (Unit × TS) :=
  nm (tI σ 165) fun v1 =>
  ob (L_step_7 FU x1 v1 0 σ) fun q8 s9 =>
  ob (F_rates_241 s9) fun r12 s11 =>
  if tI s11 223 = 1 then
    nm (tsI s11 165 (v1 + (x1 / 2))) fun s185 =>
    ob (F_move_241 (x1 / 2) s185) fun r187 s186 =>
    ob (F_rates_242 s186) fun r191 s190 =>
    ob (F_move_242 x1 s190) fun r195 s194 =>
    nm (tsI s194 165 (v1 + x1)) fun s198 =>
    ob (F_isBad s198) fun r200 s199 =>
    if r200 = 0 then
      ob (F_solveBlocks s199) fun r204 s203 =>
      some ((), s203)
    else
      some ((), s199)
  else
    if tI s11 223 = 2 then
      nm (tsI s11 165 (v1 + (x1 / 2))) fun s59 =>
      ob (F_move_241 (x1 / 2) s59) fun r61 s60 =>
      ob (F_rates_242 s60) fun r65 s64 =>
      ob (F_move_242 (x1 / 2) s64) fun r69 s68 =>
      ob (F_rates_243 s68) fun r73 s72 =>
      nm (tsI s72 165 (v1 + x1)) fun s76 =>
      ob (F_move_243 x1 s76) fun r78 s77 =>
      ob (F_rates_244 s77) fun r82 s81 =>
      ob (L_step_175 FU x1 v1 0 s81) fun q170 s171 =>
      nm (tsI s171 165 (v1 + x1)) fun s173 =>
      ob (F_isBad s173) fun r175 s174 =>
      if r175 = 0 then
        ob (F_solveBlocks s174) fun r179 s178 =>
        some ((), s178)
      else
        some ((), s174)
    else
      if tI s11 223 = 3 then
        ob (F_move_241 x1 s11) fun r30 s29 =>
        nm (tsI s29 165 (v1 + x1)) fun s33 =>
        ob (L_step_433 FU x1 v1 0 s33) fun q44 s45 =>
        nm (tsI s45 165 (v1 + x1)) fun s47 =>
        ob (F_isBad s47) fun r49 s48 =>
        if r49 = 0 then
          ob (F_solveBlocks s48) fun r53 s52 =>
          some ((), s52)
        else
          some ((), s48)
      else
        ob (F_move_241 x1 s11) fun r16 s15 =>
        nm (tsI s15 165 (v1 + x1)) fun s19 =>
        ob (F_isBad s19) fun r21 s20 =>
        if r21 = 0 then
          ob (F_solveBlocks s20) fun r25 s24 =>
          some ((), s24)
        else
          some ((), s20)
def J_oneStep_196 (σ : TS) : Option (Int32 × TS) :=
  nm (tI σ 238) fun v22 =>
  nm (tI σ 239) fun v23 =>
  ob (F_event 0 σ) fun r25 s24 =>
  ob (F_isBad s24) fun r29 s28 =>
  if r29 = 0 then
    some (1, s28)
  else
    ob (F_back 0 s28) fun r33 s32 =>
    nm (tsI s32 237 ((tI s32 237) - 1)) fun s36 =>
    nm (tsI s36 238 v22) fun s37 =>
    nm (tsI s37 239 v23) fun s38 =>
    some (1, s38)
def J_oneStep_159 (x2 : Int32) (σ : TS) : Option (Int32 × TS) :=
  ob (F_isBad σ) fun r18 s17 =>
  if r18 = 0 then
    nm (tsI s17 237 ((tI s17 237) + 1)) fun s21 =>
    if x2 = 0 then
      ob (F_anyDue s21) fun r41 s40 =>
      if r41 = 0 then
        some (0, s40)
      else
        J_oneStep_196 s40
    else
      J_oneStep_196 s21
  else
    ob (F_back 0 s17) fun r47 s46 =>
    some (0, s46)
def L_oneStep_68 : Nat → Int32 → Int32 → Int32 → TS → Option (Int32 × TS)
  | 0, _, _, _, _ => none
  | n + 1, x2, x3, x4, σ =>
    if x4 - x3 ≤ 1 then
      some (x4, σ)
    else
      ob (F_isBad σ) fun r52 s51 =>
      if r52 = 0 then
        nm ((x3 + x4) / 2) fun v55 =>
        ob (F_back 0 s51) fun r57 s56 =>
        ob (F_step v55 s56) fun r61 s60 =>
        ob (F_isBad s60) fun r65 s64 =>
        if r65 = 0 then
          ob (F_differs s64) fun r70 s69 =>
          if r70 = 0 then
            if (0 : Int32) = 0 then
              L_oneStep_68 n x2 v55 x4 s69
            else
              L_oneStep_68 n x2 x3 v55 s69
          else
            if (1 : Int32) = 0 then
              L_oneStep_68 n x2 v55 x4 s69
            else
              L_oneStep_68 n x2 x3 v55 s69
        else
          if (0 : Int32) = 0 then
            L_oneStep_68 n x2 v55 x4 s64
          else
            L_oneStep_68 n x2 x3 v55 s64
      else
        some (x4, s51)
def J_oneStep_141 (x2 : Int32) (x4 : Int32) (σ : TS) : Option (Int32 × TS) :=
  ob (F_isBad σ) fun r83 s82 =>
  if r83 = 0 then
    ob (F_back 0 s82) fun r87 s86 =>
    ob (F_step x4 s86) fun r91 s90 =>
    J_oneStep_159 x2 s90
  else
    J_oneStep_159 x2 s82
def J_oneStep_58 (x1 : Int32) (y0 : Int32) (σ : TS) : Option (Int32 × TS) :=
  if y0 = 0 then
    J_oneStep_159 y0 σ
  else
    ob (L_oneStep_68 FU y0 0 x1 σ) fun q79 s80 =>
    J_oneStep_141 y0 q79 s80
def J_oneStep_57 (x1 : Int32) (σ : TS) : Option (Int32 × TS) :=
  J_oneStep_58 x1 0 σ
def F_oneStep (σ : TS) : Option (Int32 × TS) :=
  ob (F_nextSize σ) fun r2 s1 =>
  if lg_cmp ((tI s1 165).toInt64) (2147483647 - ((r2).toInt64)) ≤ 0 then
    ob (F_keep 0 s1) fun r6 s5 =>
    ob (F_step r2 s5) fun r10 s9 =>
    ob (F_isBad s9) fun r14 s13 =>
    if r14 = 0 then
      ob (F_differs s13) fun r98 s97 =>
      if r98 = 0 then
        J_oneStep_57 r2 s97
      else
        J_oneStep_58 r2 1 s97
    else
      J_oneStep_57 r2 s13
  else
    ob (F_bad 41 0 s1) fun r104 s103 =>
    some (0, s103)
def L_tellText_2 : Nat → Nat → Int32 → TS → Option (Unit × TS)
  | 0, _, _, _ => none
  | n + 1, x1, x2, σ =>
    if x1 < tsN then
    if nI (tslen x1) ≤ x2 then
      some ((), σ)
    else
      if x1 < tsN ∧ inb x2 (tslen x1) then
      ob (F_letter (tsch x1 (ix x2)) σ) fun r4 s3 =>
      nm (x2 + 1) fun v7 =>
      L_tellText_2 n x1 v7 s3
      else none
    else none
def F_tellText (x1 : Nat) (σ : TS) : Option (Unit × TS) :=
  ob (L_tellText_2 FU x1 0 σ) fun q9 s10 =>
  some ((), s10)
def J_printLeaf_123 (x2 : Int32) (x4 : Int32) (x5 : Int32) (σ : TS) : Option (Unit × TS) :=
  ob (F_printVariable x5 σ) fun r8 s7 =>
  if x2 = 2 then
    if x4 = 0 then
      some ((), s7)
    else
      ob (F_letter 41 s7) fun r12 s11 =>
      some ((), s11)
  else
    ob (F_letter 41 s7) fun r17 s16 =>
    if x4 = 0 then
      some ((), s16)
    else
      ob (F_letter 41 s16) fun r21 s20 =>
      some ((), s20)
def J_printLeaf_120 (x2 : Int32) (x4 : Int32) (x5 : Int32) (y1 : Nat) (σ : TS) : Option (Unit × TS) :=
  ob (F_tellText y1 σ) fun r28 s27 =>
  J_printLeaf_123 x2 x4 x5 s27
def J_printLeaf_98 (x2 : Int32) (x4 : Int32) (x5 : Int32) (σ : TS) : Option (Unit × TS) :=
  if x2 = 3 then
    if tI σ 176 = 0 then
      J_printLeaf_120 x2 x4 x5 8 σ
    else
      J_printLeaf_120 x2 x4 x5 7 σ
  else
    J_printLeaf_123 x2 x4 x5 σ
def J_printLeaf_84 (x2 : Int32) (x4 : Int32) (y0 : Int32) (σ : TS) : Option (Unit × TS) :=
  if x2 = 4 then
    ob (F_tellText 6 σ) fun r34 s33 =>
    J_printLeaf_98 x2 x4 y0 s33
  else
    J_printLeaf_98 x2 x4 y0 σ
def J_printLeaf_83 (x2 : Int32) (x3 : Int32) (x4 : Int32) (σ : TS) : Option (Unit × TS) :=
  J_printLeaf_84 x2 x4 x3 σ
def J_printLeaf_58 (x2 : Int32) (x3 : Int32) (x4 : Int32) (σ : TS) : Option (Unit × TS) :=
  if tI σ 176 = 0 then
    J_printLeaf_83 x2 x3 x4 σ
  else
    if inb x3 96 then
    if tA σ 94 (ix x3) = 0 then
      if inb x3 96 then
      J_printLeaf_84 x2 x4 (tA σ 177 (ix x3)) σ
      else none
    else
      J_printLeaf_83 x2 x3 x4 σ
    else none
def J_printLeaf_44 (x2 : Int32) (x3 : Int32) (y0 : Int32) (σ : TS) : Option (Unit × TS) :=
  if y0 = 0 then
    J_printLeaf_58 x2 x3 y0 σ
  else
    ob (F_tellText 5 σ) fun r43 s42 =>
    J_printLeaf_58 x2 x3 y0 s42
def J_printLeaf_43 (x2 : Int32) (x3 : Int32) (σ : TS) : Option (Unit × TS) :=
  J_printLeaf_44 x2 x3 0 σ
def F_printLeaf (x1 : Int32) (σ : TS) : Option (Unit × TS) :=
  if inb x1 70000 then
  nm (tA σ 121 (ix x1)) fun v2 =>
  if inb x1 70000 then
  nm (tA σ 122 (ix x1)) fun v4 =>
  if tI σ 176 = 0 then
    J_printLeaf_43 v2 v4 σ
  else
    if inb v4 96 then
    if tA σ 94 (ix v4) = 0 then
      if inb v4 96 then
      if 0 ≤ tA σ 178 (ix v4) then
        J_printLeaf_43 v2 v4 σ
      else
        J_printLeaf_44 v2 v4 1 σ
      else none
    else
      J_printLeaf_43 v2 v4 σ
    else none
  else none
  else none
def F_printUnknown (x1 : Int32) (σ : TS) : Option (Unit × TS) :=
  if inb x1 200 then
  if tA σ 188 (ix x1) = 0 then
    if inb x1 200 then
    ob (F_printVariable (tA σ 187 (ix x1)) σ) fun r26 s25 =>
    some ((), s25)
    else none
  else
    ob (F_letter 100 σ) fun r3 s2 =>
    if inb x1 200 then
    ob (F_printNumber (tA s2 188 (ix x1)) s2) fun r8 s7 =>
    ob (F_letter 40 s7) fun r12 s11 =>
    if inb x1 200 then
    ob (F_printVariable (tA s11 187 (ix x1)) s11) fun r17 s16 =>
    ob (F_letter 41 s16) fun r21 s20 =>
    some ((), s20)
    else none
    else none
  else none
def B_printCall (cf_printNode : Int32 → TS → Option (Unit × TS)) (x1 : Nat) (x2 : Int32) (x3 : Int32) (σ : TS) : Option (Unit × TS) :=
  ob (F_tellText x1 σ) fun r2 s1 =>
  if inb x2 70000 then
  ob (cf_printNode (tA s1 122 (ix x2)) s1) fun r7 s6 =>
  if x3 = 2 then
    ob (F_letter 44 s6) fun r15 s14 =>
    if inb x2 70000 then
    ob (cf_printNode (tA s14 123 (ix x2)) s14) fun r20 s19 =>
    ob (F_letter 41 s19) fun r24 s23 =>
    some ((), s23)
    else none
  else
    ob (F_letter 41 s6) fun r11 s10 =>
    some ((), s10)
  else none
def L_printChain_7 (cf_printNode : Int32 → TS → Option (Unit × TS)) : Nat → Int32 → Int32 → TS → Option (Int32 × TS)
  | 0, _, _, _ => none
  | n + 1, x2, x3, σ =>
    if inb x3 70000 then
    ob (F_isArithmetic (tA σ 121 (ix x3)) σ) fun r4 s3 =>
    if r4 = 0 then
      some (x3, s3)
    else
      if inb (tI s3 171) 70000 then
      nm (tsA s3 170 (ix (tI s3 171)) x3) fun s8 =>
      nm (tsI s8 171 ((tI s8 171) + 1)) fun s9 =>
      ob (F_letter 40 s9) fun r11 s10 =>
      if inb x3 70000 then
      nm (tA s10 122 (ix x3)) fun v15 =>
      L_printChain_7 cf_printNode n x2 v15 s10
      else none
      else none
    else none
def L_printChain_60 (cf_printNode : Int32 → TS → Option (Unit × TS)) : Nat → Int32 → TS → Option (Unit × TS)
  | 0, _, _ => none
  | n + 1, x2, σ =>
    if tI σ 171 ≤ x2 then
      some ((), σ)
    else
      nm (tsI σ 171 ((tI σ 171) - 1)) fun s24 =>
      if inb (tI s24 171) 70000 then
      nm (tA s24 170 (ix (tI s24 171))) fun v26 =>
      if inb v26 70000 then
      nm (tA s24 121 (ix v26)) fun v28 =>
      if v28 = 5 then
        ob (F_letter 43 s24) fun r71 s70 =>
        if inb v26 70000 then
        ob (cf_printNode (tA s70 123 (ix v26)) s70) fun r76 s75 =>
        ob (F_letter 41 s75) fun r80 s79 =>
        L_printChain_60 cf_printNode n x2 s79
        else none
      else
        if v28 = 6 then
          ob (F_letter 45 s24) fun r57 s56 =>
          if inb v26 70000 then
          ob (cf_printNode (tA s56 123 (ix v26)) s56) fun r62 s61 =>
          ob (F_letter 41 s61) fun r66 s65 =>
          L_printChain_60 cf_printNode n x2 s65
          else none
        else
          if v28 = 8 then
            ob (F_letter 42 s24) fun r43 s42 =>
            if inb v26 70000 then
            ob (cf_printNode (tA s42 123 (ix v26)) s42) fun r48 s47 =>
            ob (F_letter 41 s47) fun r52 s51 =>
            L_printChain_60 cf_printNode n x2 s51
            else none
          else
            ob (F_letter 47 s24) fun r30 s29 =>
            if inb v26 70000 then
            ob (cf_printNode (tA s29 123 (ix v26)) s29) fun r35 s34 =>
            ob (F_letter 41 s34) fun r39 s38 =>
            L_printChain_60 cf_printNode n x2 s38
            else none
      else none
      else none
def B_printChain (cf_printNode : Int32 → TS → Option (Unit × TS)) (x1 : Int32) (σ : TS) : Option (Unit × TS) :=
  nm (tI σ 171) fun v1 =>
  ob (L_printChain_7 cf_printNode FU v1 x1 σ) fun q17 s18 =>
  ob (cf_printNode q17 s18) fun r21 s20 =>
  ob (L_printChain_60 cf_printNode FU v1 s20) fun q85 s86 =>
  some ((), s86)
def J_printNode_521 (cf_printNode : Int32 → TS → Option (Unit × TS)) (cf_printCall : Nat → Int32 → Int32 → TS → Option (Unit × TS)) (cf_printChain : Int32 → TS → Option (Unit × TS)) (x1 : Int32) (σ : TS) : Option (Unit × TS) :=
  if inb x1 70000 then
  ob (F_letter ((tA σ 122 (ix x1)) &&& 255) σ) fun r153 s152 =>
  if inb x1 70000 then
  ob (cf_printNode (tA s152 124 (ix x1)) s152) fun r158 s157 =>
  ob (F_letter 41 s157) fun r162 s161 =>
  some ((), s161)
  else none
  else none
def B_printNode (cf_printNode : Int32 → TS → Option (Unit × TS)) (cf_printCall : Nat → Int32 → Int32 → TS → Option (Unit × TS)) (cf_printChain : Int32 → TS → Option (Unit × TS)) (x1 : Int32) (σ : TS) : Option (Unit × TS) :=
  if tI σ 9 < 500 then
    if inb x1 70000 then
    nm (tA σ 121 (ix x1)) fun v2 =>
    if v2 = 0 then
      if inb x1 70000 then
      ob (F_printNumber (tA σ 122 (ix x1)) σ) fun r6 s5 =>
      some ((), s5)
      else none
    else
    if v2 = 1 then
      ob (F_tellText 9 σ) fun r11 s10 =>
      some ((), s10)
    else
    if v2 = 2 then
      ob (F_printLeaf x1 σ) fun r16 s15 =>
      some ((), s15)
    else
    if v2 = 3 then
      ob (F_printLeaf x1 σ) fun r21 s20 =>
      some ((), s20)
    else
    if v2 = 4 then
      ob (F_printLeaf x1 σ) fun r26 s25 =>
      some ((), s25)
    else
    if v2 = 5 then
      ob (cf_printChain x1 σ) fun r31 s30 =>
      some ((), s30)
    else
    if v2 = 6 then
      ob (cf_printChain x1 σ) fun r36 s35 =>
      some ((), s35)
    else
    if v2 = 7 then
      ob (F_tellText 5 σ) fun r41 s40 =>
      if inb x1 70000 then
      ob (cf_printNode (tA s40 122 (ix x1)) s40) fun r46 s45 =>
      ob (F_letter 41 s45) fun r50 s49 =>
      some ((), s49)
      else none
    else
    if v2 = 8 then
      ob (cf_printChain x1 σ) fun r55 s54 =>
      some ((), s54)
    else
    if v2 = 9 then
      ob (cf_printChain x1 σ) fun r60 s59 =>
      some ((), s59)
    else
    if v2 = 10 then
      ob (cf_printCall 10 x1 1 σ) fun r65 s64 =>
      some ((), s64)
    else
    if v2 = 11 then
      ob (cf_printCall 11 x1 1 σ) fun r70 s69 =>
      some ((), s69)
    else
    if v2 = 12 then
      ob (cf_printCall 12 x1 1 σ) fun r75 s74 =>
      some ((), s74)
    else
    if v2 = 13 then
      ob (cf_printCall 13 x1 1 σ) fun r80 s79 =>
      some ((), s79)
    else
    if v2 = 14 then
      ob (cf_printCall 14 x1 2 σ) fun r85 s84 =>
      some ((), s84)
    else
    if v2 = 15 then
      ob (cf_printCall 15 x1 2 σ) fun r90 s89 =>
      some ((), s89)
    else
    if v2 = 16 then
      ob (F_tellText 16 σ) fun r95 s94 =>
      if inb x1 70000 then
      ob (cf_printNode (tA s94 122 (ix x1)) s94) fun r100 s99 =>
      ob (F_tellText 17 s99) fun r104 s103 =>
      if inb x1 70000 then
      ob (cf_printNode (tA s103 123 (ix x1)) s103) fun r109 s108 =>
      ob (F_tellText 18 s108) fun r113 s112 =>
      if inb x1 70000 then
      ob (cf_printNode (tA s112 124 (ix x1)) s112) fun r118 s117 =>
      ob (F_letter 41 s117) fun r122 s121 =>
      some ((), s121)
      else none
      else none
      else none
    else
    if v2 = 17 then
      ob (cf_printChain x1 σ) fun r127 s126 =>
      some ((), s126)
    else
    if v2 = 18 then
      ob (cf_printChain x1 σ) fun r132 s131 =>
      some ((), s131)
    else
    if v2 = 19 then
      ob (cf_printChain x1 σ) fun r137 s136 =>
      some ((), s136)
    else
    if v2 = 20 then
      ob (F_letter 40 σ) fun r142 s141 =>
      if inb x1 70000 then
      ob (cf_printNode (tA s141 123 (ix x1)) s141) fun r147 s146 =>
      if inb x1 70000 then
      if tA s146 122 (ix x1) ≤ 255 then
        J_printNode_521 cf_printNode cf_printCall cf_printChain x1 s146
      else
        if inb x1 70000 then
        ob (F_letter ((tA s146 122 (ix x1)) >>> (8 &&& 31)) s146) fun r167 s166 =>
        J_printNode_521 cf_printNode cf_printCall cf_printChain x1 s166
        else none
      else none
      else none
    else
    if v2 = 21 then
      ob (F_letter 40 σ) fun r173 s172 =>
      if inb x1 70000 then
      ob (cf_printNode (tA s172 122 (ix x1)) s172) fun r178 s177 =>
      if v2 = 21 then
        ob (F_tellText 19 s177) fun r195 s194 =>
        if inb x1 70000 then
        ob (cf_printNode (tA s194 123 (ix x1)) s194) fun r200 s199 =>
        ob (F_letter 41 s199) fun r204 s203 =>
        some ((), s203)
        else none
      else
        ob (F_tellText 20 s177) fun r182 s181 =>
        if inb x1 70000 then
        ob (cf_printNode (tA s181 123 (ix x1)) s181) fun r187 s186 =>
        ob (F_letter 41 s186) fun r191 s190 =>
        some ((), s190)
        else none
      else none
    else
    if v2 = 22 then
      ob (F_letter 40 σ) fun r210 s209 =>
      if inb x1 70000 then
      ob (cf_printNode (tA s209 122 (ix x1)) s209) fun r215 s214 =>
      if v2 = 21 then
        ob (F_tellText 19 s214) fun r232 s231 =>
        if inb x1 70000 then
        ob (cf_printNode (tA s231 123 (ix x1)) s231) fun r237 s236 =>
        ob (F_letter 41 s236) fun r241 s240 =>
        some ((), s240)
        else none
      else
        ob (F_tellText 20 s214) fun r219 s218 =>
        if inb x1 70000 then
        ob (cf_printNode (tA s218 123 (ix x1)) s218) fun r224 s223 =>
        ob (F_letter 41 s223) fun r228 s227 =>
        some ((), s227)
        else none
      else none
    else
    if v2 = 23 then
      ob (F_tellText 21 σ) fun r247 s246 =>
      if inb x1 70000 then
      ob (cf_printNode (tA s246 122 (ix x1)) s246) fun r252 s251 =>
      ob (F_letter 41 s251) fun r256 s255 =>
      some ((), s255)
      else none
    else
    if v2 = 24 then
      ob (F_tellText 22 σ) fun r261 s260 =>
      if inb x1 70000 then
      ob (F_printNumber (tA s260 122 (ix x1)) s260) fun r266 s265 =>
      ob (F_letter 44 s265) fun r270 s269 =>
      if inb x1 70000 then
      ob (F_printNumber (tA s269 123 (ix x1)) s269) fun r275 s274 =>
      ob (F_letter 41 s274) fun r279 s278 =>
      some ((), s278)
      else none
      else none
    else
    if v2 = 25 then
      ob (F_letter 40 σ) fun r284 s283 =>
      if inb x1 70000 then
      ob (cf_printNode (tA s283 123 (ix x1)) s283) fun r289 s288 =>
      if inb x1 70000 then
      if tA s288 122 (ix x1) ≤ 255 then
        J_printNode_521 cf_printNode cf_printCall cf_printChain x1 s288
      else
        if inb x1 70000 then
        ob (F_letter ((tA s288 122 (ix x1)) >>> (8 &&& 31)) s288) fun r295 s294 =>
        J_printNode_521 cf_printNode cf_printCall cf_printChain x1 s294
        else none
      else none
      else none
    else
    if v2 = 26 then
      ob (cf_printChain x1 σ) fun r301 s300 =>
      some ((), s300)
    else
    if v2 = 27 then
      ob (cf_printChain x1 σ) fun r306 s305 =>
      some ((), s305)
    else
    if v2 = 28 then
      ob (cf_printChain x1 σ) fun r311 s310 =>
      some ((), s310)
    else
    if v2 = 29 then
      ob (cf_printChain x1 σ) fun r316 s315 =>
      some ((), s315)
    else
    if v2 = 30 then
      if inb x1 70000 then
      ob (F_printUnknown (tA σ 122 (ix x1)) σ) fun r322 s321 =>
      some ((), s321)
      else none
    else
    ob (cf_printChain x1 σ) fun r326 s325 =>
    some ((), s325)
    else none
  else
    some ((), σ)
def G_printCall : Nat → (Nat → Int32 → Int32 → TS → Option (Unit × TS)) × (Int32 → TS → Option (Unit × TS)) × (Int32 → TS → Option (Unit × TS))
  | 0 => (fun _ _ _ _ => none, fun _ _ => none, fun _ _ => none)
  | d + 1 => (B_printCall (G_printCall d).2.2, B_printChain (G_printCall d).2.2, B_printNode (G_printCall d).2.2 (G_printCall d).1 (G_printCall d).2.1)
def F_printCall : Nat → Int32 → Int32 → TS → Option (Unit × TS) := (G_printCall 500).1
def F_printChain : Int32 → TS → Option (Unit × TS) := (G_printCall 500).2.1
def F_printNode : Int32 → TS → Option (Unit × TS) := (G_printCall 500).2.2
def J_print_279 (x2 : Int32) (y1 : Nat) (σ : TS) : Option (Int32 × TS) :=
  ob (F_tellText y1 σ) fun r12 s11 =>
  if inb x2 200 then
  ob (F_printNode (tA s11 151 (ix x2)) s11) fun r17 s16 =>
  if inb x2 200 then
  if tA s16 149 (ix x2) = 7 then
    ob (F_letter 41 s16) fun r23 s22 =>
    nm (tsI s22 176 0) fun s26 =>
    some (tI s26 9, s26)
  else
    nm (tsI s16 176 0) fun s21 =>
    some (tI s21 9, s21)
  else none
  else none
def J_print_248 (x2 : Int32) (σ : TS) : Option (Int32 × TS) :=
  if inb x2 200 then
  ob (F_printVariable (tA σ 150 (ix x2)) σ) fun r7 s6 =>
  if inb x2 200 then
  if tA s6 149 (ix x2) = 7 then
    J_print_279 x2 25 s6
  else
    J_print_279 x2 23 s6
  else none
  else none
def J_print_158 (x1 : Int32) (x2 : Int32) (y1 : Int32) (σ : TS) : Option (Int32 × TS) :=
  ob (F_printNode y1 σ) fun r50 s49 =>
  ob (F_tellText 23 s49) fun r54 s53 =>
  if x1 = 0 then
    if inb x2 120 then
    ob (F_printNode (tA s53 175 (ix x2)) s53) fun r65 s64 =>
    nm (tsI s64 176 0) fun s68 =>
    some (tI s68 9, s68)
    else none
  else
    if inb x2 400 then
    ob (F_printNode (tA s53 142 (ix x2)) s53) fun r59 s58 =>
    nm (tsI s58 176 0) fun s62 =>
    some (tI s62 9, s62)
    else none
def J_print_130 (x1 : Int32) (x2 : Int32) (y1 : Int32) (σ : TS) : Option (Int32 × TS) :=
  nm (tsI σ 176 y1) fun s3 =>
  if 2 ≤ x1 then
    if x1 = 2 then
      if inb x2 24 then
      ob (F_printNode (tA s3 153 (ix x2)) s3) fun r43 s42 =>
      nm (tsI s42 176 0) fun s46 =>
      some (tI s46 9, s46)
      else none
    else
      if x1 = 3 then
        if inb x2 12 then
        ob (F_printNode (tA s3 145 (ix x2)) s3) fun r36 s35 =>
        nm (tsI s35 176 0) fun s39 =>
        some (tI s39 9, s39)
        else none
      else
        if inb x2 200 then
        if tA s3 149 (ix x2) = 7 then
          ob (F_tellText 24 s3) fun r30 s29 =>
          J_print_248 x2 s29
        else
          J_print_248 x2 s3
        else none
  else
    if x1 = 0 then
      if inb x2 120 then
      J_print_158 x1 x2 (tA s3 174 (ix x2)) s3
      else none
    else
      if inb x2 400 then
      J_print_158 x1 x2 (tA s3 141 (ix x2)) s3
      else none
def J_print_114 (x1 : Int32) (x2 : Int32) (σ : TS) : Option (Int32 × TS) :=
  nm (tsI σ 9 0) fun s2 =>
  if x1 = 1 then
    J_print_130 x1 x2 1 s2
  else
    J_print_130 x1 x2 0 s2
def J_print_87 (x1 : Int32) (x2 : Int32) (y0 : Int32) (σ : TS) : Option (Int32 × TS) :=
  if x2 < 0 then
    some ((-2), σ)
  else
    if y0 ≤ x2 then
      some ((-2), σ)
    else
      if x1 = 1 then
        if inb x2 400 then
        if tA σ 180 (ix x2) = 0 then
          J_print_114 x1 x2 σ
        else
          some ((-2), σ)
        else none
      else
        J_print_114 x1 x2 σ
def J_print_36 (x1 : Int32) (x2 : Int32) (σ : TS) : Option (Int32 × TS) :=
  if x1 = 0 then
    J_print_87 x1 x2 (tI σ 144) σ
  else
    if x1 = 1 then
      J_print_87 x1 x2 (tI σ 143) σ
    else
      if x1 = 2 then
        J_print_87 x1 x2 (tI σ 154) σ
      else
        if x1 = 3 then
          J_print_87 x1 x2 (tI σ 148) σ
        else
          J_print_87 x1 x2 (tI σ 152) σ
def F_print (x1 : Int32) (x2 : Int32) (σ : TS) : Option (Int32 × TS) :=
  if tI σ 108 = 0 then
    some ((-4), σ)
  else
    if x1 < 0 then
      some ((-1), σ)
    else
      if x1 ≤ 4 then
        if x1 = 1 then
          if tI σ 109 = 0 then
            some ((-4), σ)
          else
            J_print_36 x1 x2 σ
        else
          J_print_36 x1 x2 σ
      else
        some ((-1), σ)
def L_reduce_7 : Nat → Int32 → TS → Option (Unit × TS)
  | 0, _, _ => none
  | n + 1, x1, σ =>
    if tI σ 197 ≤ x1 then
      some ((), σ)
    else
      if inb x1 200 then
      nm (tsA σ 191 (ix x1) (-1)) fun s3 =>
      nm (x1 + 1) fun v4 =>
      L_reduce_7 n v4 s3
      else none
def L_reduce_94 : Nat → Int32 → Int32 → Int32 → Int32 → TS → Option (Unit × TS)
  | 0, _, _, _, _, _ => none
  | n + 1, x1, x2, x3, x4, σ =>
    if x3 ≤ x4 then
      some ((), σ)
    else
      ob (F_isBad σ) fun r30 s29 =>
      if r30 = 0 then
        if inb x4 200 then
        if tA s29 199 (ix x4) = 0 then
          nm (x4 + 1) fun v35 =>
          L_reduce_94 n x1 x2 x3 v35 s29
        else
          if inb x4 200 then
          if inb x4 200 then
          ob (F_newUnknown (tA s29 187 (ix x4)) ((tA s29 188 (ix x4)) + 1) x4 s29) fun r39 s38 =>
          nm (x4 + 1) fun v42 =>
          L_reduce_94 n x1 x2 x3 v42 s38
          else none
          else none
        else none
      else
        some ((), s29)
def L_reduce_155 : Nat → Int32 → Int32 → Int32 → Int32 → Int32 → TS → Option (Unit × TS)
  | 0, _, _, _, _, _, _ => none
  | n + 1, x1, x2, x3, x4, x5, σ =>
    if x4 ≤ x5 then
      some ((), σ)
    else
      ob (F_isBad σ) fun r51 s50 =>
      if r51 = 0 then
        if inb x5 400 then
        if tA s50 200 (ix x5) = 0 then
          nm (x5 + 1) fun v56 =>
          L_reduce_155 n x1 x2 x3 x4 v56 s50
        else
          ob (F_differentiate x5 s50) fun r58 s57 =>
          nm (x5 + 1) fun v61 =>
          L_reduce_155 n x1 x2 x3 x4 v61 s57
        else none
      else
        some ((), s50)
def L_reduce_202 : Nat → Int32 → Int32 → Int32 → Int32 → TS → Option (Unit × TS)
  | 0, _, _, _, _, _ => none
  | n + 1, x1, x2, x3, x5, σ =>
    if x3 ≤ x5 then
      some ((), σ)
    else
      if inb x5 200 then
      if tA σ 199 (ix x5) = 0 then
        nm (x5 + 1) fun v74 =>
        L_reduce_202 n x1 x2 x3 v74 σ
      else
        if inb x5 200 then
        if inb x5 200 then
        if inb (tA σ 191 (ix x5)) 400 then
        if inb (tA σ 189 (ix x5)) 200 then
        nm (tsA σ 191 (ix (tA σ 189 (ix x5))) (tA σ 194 (ix (tA σ 191 (ix x5))))) fun s79 =>
        nm (x5 + 1) fun v80 =>
        L_reduce_202 n x1 x2 x3 v80 s79
        else none
        else none
        else none
        else none
      else none
def J_reduce_191_64 (rec : Int32 → Int32 → TS → Option ((Unit ⊕ Unit) × TS)) (x1 : Int32) (x2 : Int32) (x3 : Int32) (σ : TS) : Option ((Unit ⊕ Unit) × TS) :=
  ob (F_isBad σ) fun r69 s68 =>
  if r69 = 0 then
    ob (L_reduce_202 FU x1 x2 x3 0 s68) fun q83 s84 =>
    if inb x2 400 then
    nm (tA s84 194 (ix x2)) fun v87 =>
    rec x1 v87 s84
    else none
  else
    some (.inr (), s68)
def J_reduce_146_64 (rec : Int32 → Int32 → TS → Option ((Unit ⊕ Unit) × TS)) (x1 : Int32) (x2 : Int32) (x3 : Int32) (σ : TS) : Option ((Unit ⊕ Unit) × TS) :=
  nm (tI σ 143) fun v49 =>
  ob (L_reduce_155 FU x1 x2 x3 v49 0 σ) fun q65 s66 =>
  J_reduce_191_64 rec x1 x2 x3 s66
def L_reduce_64 : Nat → Int32 → Int32 → TS → Option ((Unit ⊕ Unit) × TS)
  | 0, _, _, _ => none
  | n + 1, x1, x2, σ =>
    ob (F_isBad σ) fun r17 s16 =>
    if r17 = 0 then
      ob (F_unmark s16) fun r21 s20 =>
      ob (F_attempt x2 s20) fun r25 s24 =>
      if r25 = 0 then
        nm (tI s24 197) fun v28 =>
        ob (L_reduce_94 FU x1 x2 v28 0 s24) fun q46 s47 =>
        J_reduce_146_64 (L_reduce_64 n) x1 x2 v28 s47
      else
        some (.inl (), s24)
    else
      some (.inl (), s16)
def L_reduce_30 : Nat → Int32 → TS → Option ((Unit ⊕ Unit) × TS)
  | 0, _, _ => none
  | n + 1, x1, σ =>
    if tI σ 144 ≤ x1 then
      some (.inl (), σ)
    else
      ob (F_isBad σ) fun r10 s9 =>
      if r10 = 0 then
        if inb x1 400 then
        if tA s9 180 (ix x1) = 0 then
          nm (tsI s9 204 x1) fun s15 =>
          obS (L_reduce_64 FU x1 x1 s15) (fun r99 s95 => some (.inr r99, s95)) fun q94 s95 =>
          nm (x1 + 1) fun v97 =>
          L_reduce_30 n v97 s95
        else
          nm (x1 + 1) fun v100 =>
          L_reduce_30 n v100 s9
        else none
      else
        some (.inl (), s9)
def F_reduce (σ : TS) : Option (Unit × TS) :=
  nm (tsI σ 205 0) fun s1 =>
  ob (L_reduce_7 FU 0 s1) fun q6 s7 =>
  obS (L_reduce_30 FU 0 s7) (fun r108 s105 => some (r108, s105)) fun q104 s105 =>
  some ((), s105)
def F_relation (x1 : Int32) (σ : TS) : Option (Int32 × TS) :=
  if tI σ 110 = 0 then
    some ((-4), σ)
  else
    if x1 < 1000 then
      if x1 < 0 then
        some ((-2), σ)
      else
        if x1 < tI σ 154 then
          if inb x1 24 then
          if tA σ 163 (ix x1) = 0 then
            some (0, σ)
          else
            some (1, σ)
          else none
        else
          some ((-2), σ)
    else
      if tI σ 148 ≤ x1 - 1000 then
        some ((-2), σ)
      else
        if inb (x1 - 1000) 12 then
        if tA σ 235 (ix (x1 - 1000)) = 0 then
          some (0, σ)
        else
          some (1, σ)
        else none
def L_run_39 : Nat → Int32 → Int32 → Int32 → TS → Option ((Int32 ⊕ Int32) × TS)
  | 0, _, _, _, _ => none
  | n + 1, x1, x2, x3, σ =>
    if x1 ≤ x3 then
      some (.inl x2, σ)
    else
      ob (F_oneStep σ) fun r5 s4 =>
      if r5 = 0 then
        ob (F_isBad s4) fun r9 s8 =>
        if r9 = 0 then
          nm (x3 + 1) fun v12 =>
          L_run_39 n x1 x2 v12 s8
        else
          nm (tsI s8 111 1) fun s13 =>
          ob (F_faulted s13) fun r15 s14 =>
          some (.inr r15, s14)
      else
        nm (x2 + 1) fun v19 =>
        ob (F_isBad s4) fun r21 s20 =>
        if r21 = 0 then
          nm (x3 + 1) fun v24 =>
          L_run_39 n x1 v19 v24 s20
        else
          nm (tsI s20 111 1) fun s25 =>
          ob (F_faulted s25) fun r27 s26 =>
          some (.inr r27, s26)
def F_run (x1 : Int32) (σ : TS) : Option (Int32 × TS) :=
  if x1 < 1 then
    some ((-1), σ)
  else
    if x1 ≤ 20 then
      if tI σ 110 = 0 then
        some ((-4), σ)
      else
        if tI σ 111 = 0 then
          nm (tsI σ 0 0) fun s3 =>
          obS (L_run_39 FU x1 0 0 s3) (fun r37 s34 => some (r37, s34)) fun q33 s34 =>
          some (q33, s34)
        else
          some ((-4), σ)
    else
      some ((-1), σ)
def L_set_52 : Nat → Int32 → Int32 → Int32 → TS → Option (Unit × TS)
  | 0, _, _, _, _ => none
  | n + 1, x1, x2, x3, σ =>
    if tI σ 107 ≤ x3 then
      some ((), σ)
    else
      if inb x3 96 then
      if inb x3 96 then
      nm (tsA σ 248 (ix x3) (tA σ 104 (ix x3))) fun s11 =>
      if inb x3 96 then
      if inb x3 96 then
      nm (tsA s11 249 (ix x3) (tA s11 105 (ix x3))) fun s14 =>
      if inb x3 96 then
      nm (tsA s14 160 (ix x3) 0) fun s16 =>
      nm (x3 + 1) fun v17 =>
      L_set_52 n x1 x2 v17 s16
      else none
      else none
      else none
      else none
      else none
def L_set_121 : Nat → Int32 → Int32 → Int32 → TS → Option (Unit × TS)
  | 0, _, _, _, _ => none
  | n + 1, x1, x3, x4, σ =>
    if tI σ 107 ≤ x4 then
      some ((), σ)
    else
      ob (F_isBad σ) fun r29 s28 =>
      if r29 = 0 then
        if inb x4 96 then
        if tA s28 94 (ix x4) = 1 then
          ob (F_parameter x4 s28) fun r35 s34 =>
          nm (x4 + 1) fun v38 =>
          L_set_121 n x1 x3 v38 s34
        else
          nm (x4 + 1) fun v33 =>
          L_set_121 n x1 x3 v33 s28
        else none
      else
        some ((), s28)
def L_set_163 : Nat → Int32 → Int32 → Int32 → TS → Option (Unit × TS)
  | 0, _, _, _, _ => none
  | n + 1, x1, x3, x4, σ =>
    if tI σ 107 ≤ x4 then
      some ((), σ)
    else
      ob (F_isBad σ) fun r46 s45 =>
      if r46 = 0 then
        ob (F_startOf x4 s45) fun r50 s49 =>
        nm (x4 + 1) fun v53 =>
        L_set_163 n x1 x3 v53 s49
      else
        some ((), s45)
def L_set_208 : Nat → Int32 → TS → Option (Unit × TS)
  | 0, _, _ => none
  | n + 1, x4, σ =>
    if tI σ 107 ≤ x4 then
      some ((), σ)
    else
      if inb x4 96 then
      if inb x4 96 then
      nm (tsA σ 104 (ix x4) (tA σ 248 (ix x4))) fun s69 =>
      if inb x4 96 then
      if inb x4 96 then
      nm (tsA s69 105 (ix x4) (tA s69 249 (ix x4))) fun s72 =>
      if inb x4 96 then
      nm (tsA s72 160 (ix x4) 2) fun s74 =>
      nm (x4 + 1) fun v75 =>
      L_set_208 n v75 s74
      else none
      else none
      else none
      else none
      else none
def J_set_191 (x1 : Int32) (x3 : Int32) (σ : TS) : Option (Int32 × TS) :=
  ob (F_isBad σ) fun r60 s59 =>
  if r60 = 0 then
    nm (tsI s59 110 0) fun s63 =>
    nm (tsI s63 111 0) fun s64 =>
    some (0, s64)
  else
    if inb x1 96 then
    nm (tsA s59 158 (ix x1) x3) fun s66 =>
    ob (L_set_208 FU 0 s66) fun q77 s78 =>
    ob (F_faulted s78) fun r81 s80 =>
    some (r81, s80)
    else none
def J_set_160 (x1 : Int32) (x3 : Int32) (σ : TS) : Option (Int32 × TS) :=
  ob (L_set_163 FU x1 x3 0 σ) fun q56 s57 =>
  J_set_191 x1 x3 s57
def F_set (x1 : Int32) (x2 : Int32) (σ : TS) : Option (Int32 × TS) :=
  if tI σ 108 = 0 then
    some ((-4), σ)
  else
    ob (F_isVariable x1 σ) fun r3 s2 =>
    if r3 = 0 then
      some ((-2), s2)
    else
      if inb x1 96 then
      if tA s2 94 (ix x1) = 1 then
        if x2 = (-2147483648) then
          some ((-1), s2)
        else
          nm (tsI s2 0 0) fun s7 =>
          nm (tsI s7 161 0) fun s8 =>
          ob (L_set_52 FU x1 x2 0 s8) fun q19 s20 =>
          if inb x1 96 then
          nm (tA s20 158 (ix x1)) fun v23 =>
          if inb x1 96 then
          nm (tsA s20 158 (ix x1) 0) fun s25 =>
          if inb x1 96 then
          nm (tsA s25 104 (ix x1) x2) fun s27 =>
          ob (L_set_121 FU x1 v23 0 s27) fun q42 s43 =>
          J_set_160 x1 v23 s43
          else none
          else none
          else none
      else
        some ((-1), s2)
      else none
def L_slopes_19 : Nat → Int32 → Int32 → TS → Option (Unit × TS)
  | 0, _, _, _ => none
  | n + 1, x1, x2, σ =>
    if tI σ 198 ≤ x2 then
      some ((), σ)
    else
      ob (F_isBad σ) fun r6 s5 =>
      if r6 = 0 then
        ob (F_slope x1 x2 s5) fun r10 s9 =>
        if inb ((x1 * 180) + x2) 32400 then
        nm (tsA s9 245 (ix ((x1 * 180) + x2)) r10) fun s14 =>
        nm (x2 + 1) fun v15 =>
        L_slopes_19 n x1 v15 s14
        else none
      else
        some ((), s5)
def L_slopes_2 : Nat → Int32 → TS → Option (Unit × TS)
  | 0, _, _ => none
  | n + 1, x1, σ =>
    if tI σ 198 ≤ x1 then
      some ((), σ)
    else
      ob (F_isBad σ) fun r2 s1 =>
      if r2 = 0 then
        ob (L_slopes_19 FU x1 0 s1) fun q18 s19 =>
        nm (x1 + 1) fun v21 =>
        L_slopes_2 n v21 s19
      else
        some ((), s1)
def L_slopes_76 : Nat → Int32 → Int32 → TS → Option (Unit × TS)
  | 0, _, _, _ => none
  | n + 1, x1, x2, σ =>
    if tI σ 198 ≤ x2 then
      some ((), σ)
    else
      if inb ((x1 * 180) + x2) 32400 then
      if inb ((x1 * 181) + x2) 32580 then
      nm (tsA σ 225 (ix ((x1 * 181) + x2)) (tA σ 245 (ix ((x1 * 180) + x2)))) fun s30 =>
      nm (x2 + 1) fun v31 =>
      L_slopes_76 n x1 v31 s30
      else none
      else none
def L_slopes_66 : Nat → Int32 → TS → Option (Unit × TS)
  | 0, _, _ => none
  | n + 1, x1, σ =>
    if tI σ 198 ≤ x1 then
      some ((), σ)
    else
      ob (L_slopes_76 FU x1 0 σ) fun q33 s34 =>
      nm (x1 + 1) fun v36 =>
      L_slopes_66 n v36 s34
def J_slopes_64 (σ : TS) : Option (Unit × TS) :=
  ob (L_slopes_66 FU 0 σ) fun q39 s40 =>
  some ((), s40)
def F_slopes (σ : TS) : Option (Unit × TS) :=
  ob (L_slopes_2 FU 0 σ) fun q25 s26 =>
  J_slopes_64 s26
def L_solve_48 : Nat → Int32 → TS → Option (Unit × TS)
  | 0, _, _ => none
  | n + 1, x1, σ =>
    if tI σ 144 ≤ x1 then
      some ((), σ)
    else
      if inb x1 120 then
      if inb x1 400 then
      nm (tsA σ 141 (ix x1) (tA σ 174 (ix x1))) fun s10 =>
      if inb x1 120 then
      if inb x1 400 then
      nm (tsA s10 142 (ix x1) (tA s10 175 (ix x1))) fun s13 =>
      if inb x1 400 then
      nm (tsA s13 194 (ix x1) (-1)) fun s15 =>
      if inb x1 400 then
      nm (tsA s15 195 (ix x1) (-1)) fun s17 =>
      if inb x1 400 then
      nm (tsA s17 196 (ix x1) (-1)) fun s19 =>
      nm (x1 + 1) fun v20 =>
      L_solve_48 n v20 s19
      else none
      else none
      else none
      else none
      else none
      else none
      else none
def L_solve_109 : Nat → Int32 → TS → Option (Unit × TS)
  | 0, _, _ => none
  | n + 1, x1, σ =>
    if 80000 ≤ x1 then
      some ((), σ)
    else
      if inb x1 80000 then
      nm (tsA σ 202 (ix x1) (nZ 0)) fun s26 =>
      nm (x1 + 1) fun v27 =>
      L_solve_109 n v27 s26
      else none
def L_solve_146 : Nat → Int32 → TS → Option (Unit × TS)
  | 0, _, _ => none
  | n + 1, x1, σ =>
    if tI σ 144 ≤ x1 then
      some ((), σ)
    else
      ob (F_isBad σ) fun r42 s41 =>
      if r42 = 0 then
        if inb x1 400 then
        if tA s41 180 (ix x1) = 0 then
          ob (F_learn x1 s41) fun r48 s47 =>
          if inb x1 400 then
          ob (F_printedSize (tA s47 141 (ix x1)) s47) fun r53 s52 =>
          if inb x1 400 then
          ob (F_printedSize (tA s52 142 (ix x1)) s52) fun r58 s57 =>
          nm (tsL s57 203 ((tL s47 203) + (r53 + r58))) fun s61 =>
          nm (x1 + 1) fun v62 =>
          L_solve_146 n v62 s61
          else none
          else none
        else
          nm (x1 + 1) fun v63 =>
          L_solve_146 n v63 s41
        else none
      else
        some ((), s41)
def J_solve_270 (σ : TS) : Option (Int32 × TS) :=
  ob (F_isBad σ) fun r87 s86 =>
  if r87 = 0 then
    nm (tsI s86 221 (tI s86 126)) fun s90 =>
    nm (tsI s90 109 1) fun s91 =>
    some (tI s91 208, s91)
  else
    ob (F_faulted s86) fun r93 s92 =>
    some (r93, s92)
def J_solve_259 (σ : TS) : Option (Int32 × TS) :=
  ob (F_isBad σ) fun r83 s82 =>
  if r83 = 0 then
    ob (F_makeBlocks s82) fun r98 s97 =>
    J_solve_270 s97
  else
    J_solve_270 s82
def J_solve_236 (σ : TS) : Option (Int32 × TS) :=
  ob (F_isBad σ) fun r79 s78 =>
  if r79 = 0 then
    if tI s78 198 ≤ 24 then
      J_solve_259 s78
    else
      ob (F_bad 55 (-1) s78) fun r103 s102 =>
      J_solve_259 s102
  else
    J_solve_259 s78
def J_solve_225 (σ : TS) : Option (Int32 × TS) :=
  ob (F_isBad σ) fun r75 s74 =>
  if r75 = 0 then
    ob (F_chooseStates s74) fun r109 s108 =>
    J_solve_236 s108
  else
    J_solve_236 s74
def J_solve_214 (σ : TS) : Option (Int32 × TS) :=
  ob (F_isBad σ) fun r71 s70 =>
  if r71 = 0 then
    ob (F_reduce s70) fun r114 s113 =>
    J_solve_225 s113
  else
    J_solve_225 s70
def F_solve (σ : TS) : Option (Int32 × TS) :=
  if tI σ 108 = 0 then
    some ((-4), σ)
  else
    nm (tsI σ 0 0) fun s2 =>
    nm (tsI s2 109 0) fun s3 =>
    nm (tsI s3 110 0) fun s4 =>
    nm (tsI s4 111 0) fun s5 =>
    nm (tsI s5 126 (tI s5 128)) fun s6 =>
    nm (tsI s6 143 (tI s6 144)) fun s7 =>
    ob (L_solve_48 FU 0 s7) fun q22 s23 =>
    ob (L_solve_109 FU 0 s23) fun q29 s30 =>
    ob (F_aliases s30) fun r33 s32 =>
    ob (F_makeUnknowns s32) fun r37 s36 =>
    nm (tsL s36 203 0) fun s40 =>
    ob (L_solve_146 FU 0 s40) fun q67 s68 =>
    J_solve_214 s68
def L_steady_58 : Nat → Int32 → Int32 → Int32 → TS → Option (Unit × TS)
  | 0, _, _, _, _ => none
  | n + 1, x1, x2, x3, σ =>
    if tI σ 198 ≤ x3 then
      some ((), σ)
    else
      ob (F_isBad σ) fun r14 s13 =>
      if r14 = 0 then
        if inb x3 200 then
        if inb (tA s13 207 (ix x3)) 200 then
        if inb (tA s13 189 (ix (tA s13 207 (ix x3)))) 200 then
        if inb ((x3 * 181) + (tI s13 198)) 32580 then
        nm (tsA s13 225 (ix ((x3 * 181) + (tI s13 198))) (-(tA s13 166 (ix (tA s13 189 (ix (tA s13 207 (ix x3)))))))) fun s21 =>
        nm (x3 + 1) fun v22 =>
        L_steady_58 n x1 x2 v22 s21
        else none
        else none
        else none
        else none
      else
        some ((), s13)
def L_steady_113 : Nat → Int32 → Int32 → Int32 → TS → Option (Unit × TS)
  | 0, _, _, _, _ => none
  | n + 1, x1, x2, x3, σ =>
    if tI σ 198 ≤ x3 then
      some ((), σ)
    else
      ob (F_isBad σ) fun r29 s28 =>
      if r29 = 0 then
        if inb ((x3 * 181) + (tI s28 198)) 32580 then
        if inb x3 180 then
        nm (tsA s28 227 (ix x3) (tA s28 225 (ix ((x3 * 181) + (tI s28 198))))) fun s34 =>
        nm (x3 + 1) fun v35 =>
        L_steady_113 n x1 x2 v35 s34
        else none
        else none
      else
        some ((), s28)
def L_steady_161 : Nat → Int32 → Int32 → Int32 → TS → Option (Unit × TS)
  | 0, _, _, _, _ => none
  | n + 1, x1, x2, x3, σ =>
    if tI σ 198 ≤ x3 then
      some ((), σ)
    else
      if inb x3 180 then
      if inb ((x3 * 181) + (tI σ 198)) 32580 then
      nm (tsA σ 225 (ix ((x3 * 181) + (tI σ 198))) (tA σ 227 (ix x3))) fun s47 =>
      nm (x3 + 1) fun v48 =>
      L_steady_161 n x1 x2 v48 s47
      else none
      else none
def L_steady_238 : Nat → Int32 → Int32 → Int32 → Int32 → TS → Option (Unit × TS)
  | 0, _, _, _, _, _ => none
  | n + 1, x1, x2, x3, x4, σ =>
    if tI σ 198 ≤ x4 then
      some ((), σ)
    else
      ob (F_isBad σ) fun r62 s61 =>
      if r62 = 0 then
        if inb x4 200 then
        if inb x4 200 then
        if inb (tA s61 207 (ix x4)) 200 then
        if inb x4 180 then
        ob (F_fit (((tA s61 166 (ix (tA s61 207 (ix x4)))).toInt64) + ((tA s61 226 (ix x4)).toInt64)) s61) fun r70 s69 =>
        if inb (tA s61 207 (ix x4)) 200 then
        nm (tsA s69 166 (ix (tA s61 207 (ix x4))) r70) fun s74 =>
        nm (x4 + 1) fun v75 =>
        L_steady_238 n x1 x2 x3 v75 s74
        else none
        else none
        else none
        else none
        else none
      else
        some ((), s61)
def J_steady_234_43 (rec : Int32 → Int32 → TS → Option ((Unit ⊕ Int32) × TS)) (x1 : Int32) (x2 : Int32) (y0 : Int32) (σ : TS) : Option ((Unit ⊕ Int32) × TS) :=
  ob (L_steady_238 FU x1 x2 y0 0 σ) fun q78 s79 =>
  ob (F_isBad s79) fun r82 s81 =>
  if r82 = 0 then
    ob (F_solveBlocks s81) fun r94 s93 =>
    ob (F_isBad s93) fun r98 s97 =>
    if r98 = 0 then
      if y0 = 0 then
        nm (x2 + 1) fun v102 =>
        rec x1 v102 s97
      else
        some (.inr x2, s97)
    else
      nm (x2 + 1) fun v101 =>
      rec x1 v101 s97
  else
    ob (F_isBad s81) fun r86 s85 =>
    if r86 = 0 then
      if y0 = 0 then
        nm (x2 + 1) fun v90 =>
        rec x1 v90 s85
      else
        some (.inr x2, s85)
    else
      nm (x2 + 1) fun v89 =>
      rec x1 v89 s85
def J_steady_233_43 (rec : Int32 → Int32 → TS → Option ((Unit ⊕ Int32) × TS)) (x1 : Int32) (x2 : Int32) (σ : TS) : Option ((Unit ⊕ Int32) × TS) :=
  J_steady_234_43 rec x1 x2 0 σ
def J_steady_211_43 (rec : Int32 → Int32 → TS → Option ((Unit ⊕ Int32) × TS)) (x1 : Int32) (x2 : Int32) (σ : TS) : Option ((Unit ⊕ Int32) × TS) :=
  ob (F_isBad σ) fun r58 s57 =>
  if r58 = 0 then
    ob (F_areSmall (tI s57 198) s57) fun r108 s107 =>
    if r108 = 0 then
      J_steady_233_43 rec x1 x2 s107
    else
      J_steady_234_43 rec x1 x2 1 s107
  else
    J_steady_233_43 rec x1 x2 s57
def J_steady_155_43 (rec : Int32 → Int32 → TS → Option ((Unit ⊕ Int32) × TS)) (x1 : Int32) (x2 : Int32) (σ : TS) : Option ((Unit ⊕ Int32) × TS) :=
  ob (F_slopes σ) fun r42 s41 =>
  ob (L_steady_161 FU x1 x2 0 s41) fun q50 s51 =>
  ob (F_isBad s51) fun r54 s53 =>
  if r54 = 0 then
    ob (F_eliminate (tI s53 198) s53) fun r114 s113 =>
    J_steady_211_43 rec x1 x2 s113
  else
    J_steady_211_43 rec x1 x2 s53
def J_steady_111_43 (rec : Int32 → Int32 → TS → Option ((Unit ⊕ Int32) × TS)) (x1 : Int32) (x2 : Int32) (σ : TS) : Option ((Unit ⊕ Int32) × TS) :=
  ob (L_steady_113 FU x1 x2 0 σ) fun q38 s39 =>
  J_steady_155_43 rec x1 x2 s39
def L_steady_43 : Nat → Int32 → Int32 → TS → Option ((Unit ⊕ Int32) × TS)
  | 0, _, _, _ => none
  | n + 1, x1, x2, σ =>
    if 10 < x2 then
      some (.inl (), σ)
    else
      ob (F_isBad σ) fun r10 s9 =>
      if r10 = 0 then
        ob (L_steady_58 FU x1 x2 0 s9) fun q25 s26 =>
        J_steady_111_43 (L_steady_43 n) x1 x2 s26
      else
        some (.inl (), s9)
def J_steady_328 (x1 : Int32) (σ : TS) : Option (Int32 × TS) :=
  ob (F_isBad σ) fun r127 s126 =>
  if r127 = 0 then
    ob (F_bad 44 0 s126) fun r140 s139 =>
    ob (F_back 0 s139) fun r144 s143 =>
    nm (tsI s143 222 x1) fun s147 =>
    ob (F_faulted s147) fun r149 s148 =>
    some (r149, s148)
  else
    ob (F_back 0 s126) fun r131 s130 =>
    nm (tsI s130 222 x1) fun s134 =>
    ob (F_faulted s134) fun r136 s135 =>
    some (r136, s135)
def F_steady (σ : TS) : Option (Int32 × TS) :=
  if tI σ 110 = 0 then
    some ((-4), σ)
  else
    if tI σ 111 = 0 then
      if tI σ 198 = 0 then
        some (0, σ)
      else
        nm (tsI σ 0 0) fun s3 =>
        nm (tI s3 222) fun v4 =>
        ob (F_keep 0 s3) fun r6 s5 =>
        obS (L_steady_43 FU v4 1 s5) (fun r154 s124 => some (r154, s124)) fun q123 s124 =>
        J_steady_328 v4 s124
    else
      some ((-4), σ)
def F_time (σ : TS) : Option (Int64 × TS) :=
  if tI σ 110 = 0 then
    some ((-4294967300), σ)
  else
    some ((tI σ 165).toInt64, σ)
def F_unknown (x1 : Int32) (x2 : Int32) (σ : TS) : Option (Int32 × TS) :=
  if tI σ 109 = 0 then
    some ((-4), σ)
  else
    if x1 < 0 then
      some ((-2), σ)
    else
      if x1 < tI σ 197 then
        if x2 = 0 then
          if inb x1 200 then
          some (tA σ 187 (ix x1), σ)
          else none
        else
        if x2 = 1 then
          if inb x1 200 then
          some (tA σ 188 (ix x1), σ)
          else none
        else
        if x2 = 2 then
          if inb x1 200 then
          ob (F_orNone (tA σ 189 (ix x1)) σ) fun r9 s8 =>
          some (r9, s8)
          else none
        else
        if x2 = 3 then
          if inb x1 200 then
          if tA σ 192 (ix x1) = 2 then
            some ((-2), σ)
          else
            if inb x1 200 then
            ob (F_orNone (tA σ 191 (ix x1)) σ) fun r16 s15 =>
            some (r16, s15)
            else none
          else none
        else
        if x2 = 4 then
          if inb x1 200 then
          some (tA σ 192 (ix x1), σ)
          else none
        else
        some ((-1), σ)
      else
        some ((-2), σ)
def J_value_144 (x1 : Int32) (y0 : Int32) (σ : TS) : Option (Int64 × TS) :=
  if y0 < 0 then
    some ((-4294967298), σ)
  else
    if inb y0 200 then
    if 0 ≤ tA σ 189 (ix y0) then
      ob (F_derOf x1 σ) fun r11 s10 =>
      some ((r11).toInt64, s10)
    else
      some ((-4294967298), σ)
    else none
def J_value_71 (x1 : Int32) (x2 : Int32) (σ : TS) : Option (Int64 × TS) :=
  if tI σ 110 = 0 then
    some ((-4294967300), σ)
  else
    if inb x1 96 then
    if tA σ 94 (ix x1) = 1 then
      some ((-4294967298), σ)
    else
      if x2 = 1 then
        ob (F_valueOf x1 σ) fun r25 s24 =>
        some ((r25).toInt64, s24)
      else
        if x2 = 3 then
          ob (F_preOf x1 σ) fun r20 s19 =>
          some ((r20).toInt64, s19)
        else
          if inb x1 96 then
          if tA σ 94 (ix x1) = 0 then
            if inb x1 96 then
            if inb (tA σ 177 (ix x1)) 96 then
            J_value_144 x1 (tA σ 179 (ix (tA σ 177 (ix x1)))) σ
            else none
            else none
          else
            J_value_144 x1 (-1) σ
          else none
    else none
def F_value (x1 : Int32) (x2 : Int32) (σ : TS) : Option (Int64 × TS) :=
  if tI σ 108 = 0 then
    some ((-4294967300), σ)
  else
    ob (F_isVariable x1 σ) fun r3 s2 =>
    if r3 = 0 then
      some ((-4294967298), s2)
    else
      if x2 < 0 then
        some ((-4294967297), s2)
      else
        if x2 ≤ 3 then
          if x2 = 0 then
            if inb x1 96 then
            some ((tA s2 105 (ix x1)).toInt64, s2)
            else none
          else
            if x2 = 1 then
              if inb x1 96 then
              if tA s2 94 (ix x1) = 1 then
                if inb x1 96 then
                some ((tA s2 104 (ix x1)).toInt64, s2)
                else none
              else
                J_value_71 x1 x2 s2
              else none
            else
              J_value_71 x1 x2 s2
        else
          some ((-4294967297), s2)
def F_variable (x1 : Int32) (x2 : Int32) (σ : TS) : Option (Int32 × TS) :=
  if tI σ 108 = 0 then
    some ((-4), σ)
  else
    ob (F_isVariable x1 σ) fun r3 s2 =>
    if r3 = 0 then
      some ((-2), s2)
    else
      if x2 = 0 then
        if inb x1 96 then
        some (tA s2 94 (ix x1), s2)
        else none
      else
      if x2 = 1 then
        if inb x1 96 then
        if tA s2 95 (ix x1) = 0 then
          some (0, s2)
        else
          if inb x1 96 then
          some ((((tA s2 95 (ix x1)) >>> ((5 * (x2 - 1)) &&& 31)) &&& 31) - 8, s2)
          else none
        else none
      else
      if x2 = 2 then
        if inb x1 96 then
        if tA s2 95 (ix x1) = 0 then
          some (0, s2)
        else
          if inb x1 96 then
          some ((((tA s2 95 (ix x1)) >>> ((5 * (x2 - 1)) &&& 31)) &&& 31) - 8, s2)
          else none
        else none
      else
      if x2 = 3 then
        if inb x1 96 then
        if tA s2 95 (ix x1) = 0 then
          some (0, s2)
        else
          if inb x1 96 then
          some ((((tA s2 95 (ix x1)) >>> ((5 * (x2 - 1)) &&& 31)) &&& 31) - 8, s2)
          else none
        else none
      else
      if x2 = 4 then
        ob (F_letters x1 s2) fun r22 s21 =>
        some (r22, s21)
      else
      if x2 = 5 then
        if inb x1 96 then
        some (tA s2 99 (ix x1), s2)
        else none
      else
      if x2 = 6 then
        if inb x1 96 then
        some (tA s2 96 (ix x1), s2)
        else none
      else
      some ((-1), s2)
