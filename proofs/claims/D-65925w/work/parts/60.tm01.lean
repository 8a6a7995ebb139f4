set_option maxRecDepth 100000
def L_ands_5 (cf_test : TS → Option (Int32 × TS)) : Nat → Int32 → TS → Option (Int32 × TS)
  | 0, _, _ => none
  | n + 1, x1, σ =>
    ob (F_isBad σ) fun r6 s5 =>
    if r6 = 0 then
      ob (F_isWord 6385252 s5) fun r10 s9 =>
      if r10 = 0 then
        some (x1, s9)
      else
        ob (F_next s9) fun r14 s13 =>
        ob (cf_test s13) fun r18 s17 =>
        ob (F_node 21 x1 r18 0 s17) fun r22 s21 =>
        L_ands_5 cf_test n r22 s21
    else
      some (x1, s5)
def B_ands (cf_test : TS → Option (Int32 × TS)) (σ : TS) : Option (Int32 × TS) :=
  ob (cf_test σ) fun r2 s1 =>
  ob (L_ands_5 cf_test FU r2 s1) fun q27 s28 =>
  some (q27, s28)
def L_call_37 (cf_expression : TS → Option (Int32 × TS)) : Nat → Int32 → Int32 → Int32 → Int32 → Int32 → TS → Option ((Int32 × Int32) × TS)
  | 0, _, _, _, _, _, _ => none
  | n + 1, x3, x4, x5, x6, x7, σ =>
    ob (F_isBad σ) fun r14 s13 =>
    if r14 = 0 then
      ob (cf_expression s13) fun r18 s17 =>
      ob (F_node 43 r18 0 0 s17) fun r22 s21 =>
      if x5 = 0 then
        nm (x7 + 1) fun v37 =>
        ob (F_isSign 44 s21) fun r39 s38 =>
        if r39 = 0 then
          some ((r22, v37), s38)
        else
          ob (F_next s38) fun r43 s42 =>
          L_call_37 cf_expression n x3 x4 r22 r22 v37 s42
      else
        if inb x6 9000 then
        nm (tsA s21 26 (ix x6) r22) fun s26 =>
        nm (x7 + 1) fun v27 =>
        ob (F_isSign 44 s26) fun r29 s28 =>
        if r29 = 0 then
          some ((x5, v27), s28)
        else
          ob (F_next s28) fun r33 s32 =>
          L_call_37 cf_expression n x3 x4 x5 r22 v27 s32
        else none
    else
      some ((x5, x7), s13)
def J_call_105 (cf_expression : TS → Option (Int32 × TS)) (x3 : Int32) (x4 : Int32) (x5 : Int32) (x7 : Int32) (σ : TS) : Option (Int32 × TS) :=
  ob (F_pass 41 σ) fun r53 s52 =>
  nm (tsI s52 20 ((tI s52 20) - 1)) fun s56 =>
  ob (F_isBad s56) fun r58 s57 =>
  if r58 = 0 then
    if inb x4 12 then
    if x7 = tA s57 42 (ix x4) then
      ob (F_node 40 x4 x5 0 s57) fun r67 s66 =>
      some (r67, s66)
    else
      ob (F_bad 6 x3 s57) fun r71 s70 =>
      ob (F_node 40 x4 x5 0 s70) fun r75 s74 =>
      some (r75, s74)
    else none
  else
    ob (F_node 40 x4 x5 0 s57) fun r62 s61 =>
    some (r62, s61)
def B_call (cf_expression : TS → Option (Int32 × TS)) (x1 : Int64) (x3 : Int32) (σ : TS) : Option (Int32 × TS) :=
  ob (F_function x1 σ) fun r2 s1 =>
  if 0 ≤ r2 then
    ob (F_deeper s1) fun r6 s5 =>
    ob (F_next s5) fun r10 s9 =>
    ob (L_call_37 cf_expression FU x3 r2 0 0 0 s9) fun q49 s50 =>
    J_call_105 cf_expression x3 r2 q49.1 q49.2 s50
  else
    ob (F_bad 5 x3 s1) fun r82 s81 =>
    some (0, s81)
def L_condition_5 (cf_ands : TS → Option (Int32 × TS)) : Nat → Int32 → TS → Option (Int32 × TS)
  | 0, _, _ => none
  | n + 1, x1, σ =>
    ob (F_isBad σ) fun r6 s5 =>
    if r6 = 0 then
      ob (F_isWord 28530 s5) fun r10 s9 =>
      if r10 = 0 then
        some (x1, s9)
      else
        ob (F_next s9) fun r14 s13 =>
        ob (cf_ands s13) fun r18 s17 =>
        ob (F_node 22 x1 r18 0 s17) fun r22 s21 =>
        L_condition_5 cf_ands n r22 s21
    else
      some (x1, s5)
def B_condition (cf_ands : TS → Option (Int32 × TS)) (σ : TS) : Option (Int32 × TS) :=
  ob (cf_ands σ) fun r2 s1 =>
  ob (L_condition_5 cf_ands FU r2 s1) fun q27 s28 =>
  some (q27, s28)
def B_expression (cf_condition : TS → Option (Int32 × TS)) (cf_expression : TS → Option (Int32 × TS)) (cf_sum : TS → Option (Int32 × TS)) (σ : TS) : Option (Int32 × TS) :=
  ob (F_isBad σ) fun r2 s1 =>
  if r2 = 0 then
    ob (F_isWord 26982 s1) fun r6 s5 =>
    if r6 = 0 then
      ob (cf_sum s5) fun r10 s9 =>
      some (r10, s9)
    else
      if tI s5 39 = 0 then
        ob (F_deeper s5) fun r19 s18 =>
        ob (F_next s18) fun r23 s22 =>
        ob (cf_condition s22) fun r27 s26 =>
        ob (F_passWord 1952998766 s26) fun r31 s30 =>
        ob (cf_expression s30) fun r35 s34 =>
        ob (F_passWord 1701606245 s34) fun r39 s38 =>
        ob (cf_expression s38) fun r43 s42 =>
        nm (tsI s42 20 ((tI s42 20) - 1)) fun s46 =>
        ob (F_node 16 r27 r35 r43 s46) fun r48 s47 =>
        some (r48, s47)
      else
        ob (cf_sum s5) fun r15 s14 =>
        some (r15, s14)
  else
    some (0, s1)
def J_factor_330 (cf_expression : TS → Option (Int32 × TS)) (cf_opened : Int32 → Int32 → TS → Option (Int32 × TS)) (cf_call : Int64 → Int32 → TS → Option (Int32 × TS)) (σ : TS) : Option (Int32 × TS) :=
  ob (F_isKey σ) fun r36 s35 =>
  if r36 = 0 then
    nm (tL s35 16) fun v39 =>
    nm (tI s35 12) fun v40 =>
    ob (F_next s35) fun r42 s41 =>
    ob (F_isSign 40 s41) fun r46 s45 =>
    if r46 = 0 then
      if tI s45 39 = 0 then
        ob (F_isFor v39 s45) fun r51 s50 =>
        if r51 = 0 then
          ob (F_refFrom v39 s50) fun r55 s54 =>
          ob (F_node 2 r55 0 0 s54) fun r59 s58 =>
          some (r59, s58)
        else
          ob (F_isSign 46 s50) fun r63 s62 =>
          if r63 = 0 then
            ob (F_isSign 91 s62) fun r75 s74 =>
            if r75 = 0 then
              ob (F_newPart v39 s74) fun r87 s86 =>
              ob (F_node 41 r87 0 0 s86) fun r91 s90 =>
              some (r91, s90)
            else
              ob (F_refFrom v39 s74) fun r79 s78 =>
              ob (F_node 2 r79 0 0 s78) fun r83 s82 =>
              some (r83, s82)
          else
            ob (F_refFrom v39 s62) fun r67 s66 =>
            ob (F_node 2 r67 0 0 s66) fun r71 s70 =>
            some (r71, s70)
      else
        ob (F_formal v39 s45) fun r98 s97 =>
        if 0 ≤ r98 then
          ob (F_node 42 r98 0 0 s97) fun r102 s101 =>
          some (r102, s101)
        else
          ob (F_bad 2 v40 s97) fun r106 s105 =>
          ob (F_node 42 r98 0 0 s105) fun r110 s109 =>
          some (r110, s109)
    else
      ob (cf_call v39 v40 s45) fun r116 s115 =>
      some (r116, s115)
  else
    ob (F_cantStand s35) fun r121 s120 =>
    some (0, s120)
def J_factor_294 (cf_expression : TS → Option (Int32 × TS)) (cf_opened : Int32 → Int32 → TS → Option (Int32 × TS)) (cf_call : Int64 → Int32 → TS → Option (Int32 × TS)) (x1 : Int32) (σ : TS) : Option (Int32 × TS) :=
  ob (F_pass 40 σ) fun r142 s141 =>
  ob (F_ref s141) fun r146 s145 =>
  ob (F_pass 41 s145) fun r150 s149 =>
  nm (tsI s149 20 ((tI s149 20) - 1)) fun s153 =>
  ob (F_node x1 r146 0 0 s153) fun r155 s154 =>
  some (r155, s154)
def J_factor_269 (cf_expression : TS → Option (Int32 × TS)) (cf_opened : Int32 → Int32 → TS → Option (Int32 × TS)) (cf_call : Int64 → Int32 → TS → Option (Int32 × TS)) (y0 : Int32) (σ : TS) : Option (Int32 × TS) :=
  ob (F_next σ) fun r134 s133 =>
  ob (F_isBad s133) fun r138 s137 =>
  if r138 = 0 then
    ob (F_isSign 40 s137) fun r159 s158 =>
    if r159 = 0 then
      J_factor_294 cf_expression cf_opened cf_call y0 s158
    else
      ob (F_deeper s158) fun r163 s162 =>
      J_factor_294 cf_expression cf_opened cf_call y0 s162
  else
    J_factor_294 cf_expression cf_opened cf_call y0 s137
def J_factor_254 (cf_expression : TS → Option (Int32 × TS)) (cf_opened : Int32 → Int32 → TS → Option (Int32 × TS)) (cf_call : Int64 → Int32 → TS → Option (Int32 × TS)) (σ : TS) : Option (Int32 × TS) :=
  ob (F_isWord 6579570 σ) fun r130 s129 =>
  if r130 = 0 then
    J_factor_269 cf_expression cf_opened cf_call 4 s129
  else
    J_factor_269 cf_expression cf_opened cf_call 3 s129
def J_factor_227 (cf_expression : TS → Option (Int32 × TS)) (cf_opened : Int32 → Int32 → TS → Option (Int32 × TS)) (cf_call : Int64 → Int32 → TS → Option (Int32 × TS)) (σ : TS) : Option (Int32 × TS) :=
  if tI σ 39 = 0 then
    ob (F_isWord 6579570 σ) fun r126 s125 =>
    if r126 = 0 then
      ob (F_isWord 7369317 s125) fun r170 s169 =>
      if r170 = 0 then
        J_factor_330 cf_expression cf_opened cf_call s169
      else
        J_factor_254 cf_expression cf_opened cf_call s169
    else
      J_factor_254 cf_expression cf_opened cf_call s125
  else
    J_factor_330 cf_expression cf_opened cf_call σ
def B_factor (cf_expression : TS → Option (Int32 × TS)) (cf_opened : Int32 → Int32 → TS → Option (Int32 × TS)) (cf_call : Int64 → Int32 → TS → Option (Int32 × TS)) (σ : TS) : Option (Int32 × TS) :=
  ob (F_isBad σ) fun r2 s1 =>
  if r2 = 0 then
    if tI s1 11 = 2 then
      nm (tI s1 15) fun v243 =>
      ob (F_next s1) fun r245 s244 =>
      ob (F_node 0 v243 0 0 s244) fun r249 s248 =>
      some (r249, s248)
    else
      ob (F_isSign 40 s1) fun r6 s5 =>
      if r6 = 0 then
        if tI s5 11 = 1 then
          ob (F_isWord 6382195 s5) fun r10 s9 =>
          if r10 = 0 then
            ob (F_isWord 1936814708 s9) fun r14 s13 =>
            if r14 = 0 then
              ob (F_isWord 1936287598 s13) fun r18 s17 =>
              if r18 = 0 then
                ob (F_isWord 439905906546 s17) fun r22 s21 =>
                if r22 = 0 then
                  ob (F_isWord 7170414 s21) fun r26 s25 =>
                  if r26 = 0 then
                    ob (F_isWord 7168376 s25) fun r30 s29 =>
                    if r30 = 0 then
                      if tI s29 39 = 0 then
                        ob (F_isWord 1953066341 s29) fun r177 s176 =>
                        if r177 = 0 then
                          J_factor_227 cf_expression cf_opened cf_call s176
                        else
                          ob (F_next s176) fun r181 s180 =>
                          ob (F_node 1 0 0 0 s180) fun r185 s184 =>
                          some (r185, s184)
                      else
                        J_factor_227 cf_expression cf_opened cf_call s29
                    else
                      ob (cf_opened 15 2 s29) fun r191 s190 =>
                      some (r191, s190)
                  else
                    ob (cf_opened 14 2 s25) fun r196 s195 =>
                    some (r196, s195)
                else
                  ob (cf_opened 13 1 s21) fun r201 s200 =>
                  some (r201, s200)
              else
                ob (cf_opened 12 1 s17) fun r206 s205 =>
                some (r206, s205)
            else
              ob (cf_opened 11 1 s13) fun r211 s210 =>
              some (r211, s210)
          else
            ob (cf_opened 10 1 s9) fun r216 s215 =>
            some (r216, s215)
        else
          ob (F_cantStand s5) fun r221 s220 =>
          some (0, s220)
      else
        ob (F_deeper s5) fun r226 s225 =>
        ob (F_next s225) fun r230 s229 =>
        ob (cf_expression s229) fun r234 s233 =>
        ob (F_pass 41 s233) fun r238 s237 =>
        nm (tsI s237 20 ((tI s237 20) - 1)) fun s241 =>
        some (r234, s241)
  else
    some (0, s1)
def J_opened_55 (cf_expression : TS → Option (Int32 × TS)) (x1 : Int32) (x3 : Int32) (x4 : Int32) (σ : TS) : Option (Int32 × TS) :=
  ob (F_pass 41 σ) fun r18 s17 =>
  nm (tsI s17 20 ((tI s17 20) - 1)) fun s21 =>
  ob (F_node x1 x3 x4 0 s21) fun r23 s22 =>
  some (r23, s22)
def J_opened_24 (cf_expression : TS → Option (Int32 × TS)) (x1 : Int32) (x2 : Int32) (σ : TS) : Option (Int32 × TS) :=
  ob (F_pass 40 σ) fun r10 s9 =>
  ob (cf_expression s9) fun r14 s13 =>
  if x2 = 2 then
    ob (F_pass 44 s13) fun r27 s26 =>
    ob (cf_expression s26) fun r31 s30 =>
    J_opened_55 cf_expression x1 r14 r31 s30
  else
    J_opened_55 cf_expression x1 r14 0 s13
def B_opened (cf_expression : TS → Option (Int32 × TS)) (x1 : Int32) (x2 : Int32) (σ : TS) : Option (Int32 × TS) :=
  ob (F_next σ) fun r2 s1 =>
  ob (F_isBad s1) fun r6 s5 =>
  if r6 = 0 then
    ob (F_isSign 40 s5) fun r36 s35 =>
    if r36 = 0 then
      J_opened_24 cf_expression x1 x2 s35
    else
      ob (F_deeper s35) fun r40 s39 =>
      J_opened_24 cf_expression x1 x2 s39
  else
    J_opened_24 cf_expression x1 x2 s5
def J_sum_68_43 (cf_term : TS → Option (Int32 × TS)) (rec : Int32 → TS → Option (Int32 × TS)) (x2 : Int32) (σ : TS) : Option (Int32 × TS) :=
  if tI σ 14 = 43 then
    ob (F_next σ) fun r34 s33 =>
    ob (cf_term s33) fun r38 s37 =>
    ob (F_node 5 x2 r38 0 s37) fun r42 s41 =>
    rec r42 s41
  else
    ob (F_next σ) fun r22 s21 =>
    ob (cf_term s21) fun r26 s25 =>
    ob (F_node 6 x2 r26 0 s25) fun r30 s29 =>
    rec r30 s29
def L_sum_43 (cf_term : TS → Option (Int32 × TS)) : Nat → Int32 → TS → Option (Int32 × TS)
  | 0, _, _ => none
  | n + 1, x2, σ =>
    ob (F_isBad σ) fun r14 s13 =>
    if r14 = 0 then
      ob (F_isSign 43 s13) fun r18 s17 =>
      if r18 = 0 then
        ob (F_isSign 45 s17) fun r47 s46 =>
        if r47 = 0 then
          some (x2, s46)
        else
          J_sum_68_43 cf_term (L_sum_43 cf_term n) x2 s46
      else
        J_sum_68_43 cf_term (L_sum_43 cf_term n) x2 s17
    else
      some (x2, s13)
def J_sum_24 (cf_term : TS → Option (Int32 × TS)) (x1 : Int32) (σ : TS) : Option (Int32 × TS) :=
  ob (cf_term σ) fun r10 s9 =>
  if x1 = 0 then
    ob (L_sum_43 cf_term FU r10 s9) fun q53 s54 =>
    some (q53, s54)
  else
    ob (F_node 7 r10 0 0 s9) fun r58 s57 =>
    ob (L_sum_43 cf_term FU r58 s57) fun q61 s62 =>
    some (q61, s62)
def B_sum (cf_term : TS → Option (Int32 × TS)) (σ : TS) : Option (Int32 × TS) :=
  ob (F_isBad σ) fun r2 s1 =>
  if r2 = 0 then
    ob (F_isSign 45 s1) fun r6 s5 =>
    if r6 = 0 then
      J_sum_24 cf_term r6 s5
    else
      ob (F_next s5) fun r67 s66 =>
      J_sum_24 cf_term r6 s66
  else
    some (0, s1)
def J_term_30_5 (cf_factor : TS → Option (Int32 × TS)) (rec : Int32 → TS → Option (Int32 × TS)) (x1 : Int32) (σ : TS) : Option (Int32 × TS) :=
  if tI σ 14 = 42 then
    ob (F_next σ) fun r26 s25 =>
    ob (cf_factor s25) fun r30 s29 =>
    ob (F_node 8 x1 r30 0 s29) fun r34 s33 =>
    rec r34 s33
  else
    ob (F_next σ) fun r14 s13 =>
    ob (cf_factor s13) fun r18 s17 =>
    ob (F_node 9 x1 r18 0 s17) fun r22 s21 =>
    rec r22 s21
def L_term_5 (cf_factor : TS → Option (Int32 × TS)) : Nat → Int32 → TS → Option (Int32 × TS)
  | 0, _, _ => none
  | n + 1, x1, σ =>
    ob (F_isBad σ) fun r6 s5 =>
    if r6 = 0 then
      ob (F_isSign 42 s5) fun r10 s9 =>
      if r10 = 0 then
        ob (F_isSign 47 s9) fun r39 s38 =>
        if r39 = 0 then
          some (x1, s38)
        else
          J_term_30_5 cf_factor (L_term_5 cf_factor n) x1 s38
      else
        J_term_30_5 cf_factor (L_term_5 cf_factor n) x1 s9
    else
      some (x1, s5)
def B_term (cf_factor : TS → Option (Int32 × TS)) (σ : TS) : Option (Int32 × TS) :=
  ob (cf_factor σ) fun r2 s1 =>
  ob (L_term_5 cf_factor FU r2 s1) fun q45 s46 =>
  some (q45, s46)
def J_test_98 (cf_test : TS → Option (Int32 × TS)) (cf_condition : TS → Option (Int32 × TS)) (cf_sum : TS → Option (Int32 × TS)) (σ : TS) : Option (Int32 × TS) :=
  ob (cf_sum σ) fun r18 s17 =>
  ob (F_isBad s17) fun r22 s21 =>
  if r22 = 0 then
    ob (F_isRelation s21) fun r26 s25 =>
    if r26 = 0 then
      ob (F_cantStand s25) fun r43 s42 =>
      some (0, s42)
    else
      nm (tI s25 14) fun v29 =>
      ob (F_next s25) fun r31 s30 =>
      ob (cf_sum s30) fun r35 s34 =>
      ob (F_node 20 v29 r18 r35 s34) fun r39 s38 =>
      some (r39, s38)
  else
    some (0, s21)
def B_test (cf_test : TS → Option (Int32 × TS)) (cf_condition : TS → Option (Int32 × TS)) (cf_sum : TS → Option (Int32 × TS)) (σ : TS) : Option (Int32 × TS) :=
  ob (F_isBad σ) fun r2 s1 =>
  if r2 = 0 then
    ob (F_isWord 7237492 s1) fun r6 s5 =>
    if r6 = 0 then
      ob (F_isWord 126862285106277 s5) fun r10 s9 =>
      if r10 = 0 then
        ob (F_isSign 40 s9) fun r14 s13 =>
        if r14 = 0 then
          J_test_98 cf_test cf_condition cf_sum s13
        else
          ob (F_isGroup s13) fun r49 s48 =>
          if r49 = 0 then
            J_test_98 cf_test cf_condition cf_sum s48
          else
            ob (F_deeper s48) fun r53 s52 =>
            ob (F_next s52) fun r57 s56 =>
            ob (cf_condition s56) fun r61 s60 =>
            ob (F_pass 41 s60) fun r65 s64 =>
            nm (tsI s64 20 ((tI s64 20) - 1)) fun s68 =>
            some (r61, s68)
      else
        ob (F_sample s9) fun r72 s71 =>
        some (r72, s71)
    else
      ob (F_next s5) fun r77 s76 =>
      ob (cf_test s76) fun r81 s80 =>
      ob (F_node 23 r81 0 0 s80) fun r85 s84 =>
      some (r85, s84)
  else
    some (0, s1)
def G_ands : Nat → (TS → Option (Int32 × TS)) × (Int64 → Int32 → TS → Option (Int32 × TS)) × (TS → Option (Int32 × TS)) × (TS → Option (Int32 × TS)) × (TS → Option (Int32 × TS)) × (Int32 → Int32 → TS → Option (Int32 × TS)) × (TS → Option (Int32 × TS)) × (TS → Option (Int32 × TS)) × (TS → Option (Int32 × TS))
  | 0 => (fun _ => none, fun _ _ _ => none, fun _ => none, fun _ => none, fun _ => none, fun _ _ _ => none, fun _ => none, fun _ => none, fun _ => none)
  | d + 1 => (B_ands (G_ands d).2.2.2.2.2.2.2.2, B_call (G_ands d).2.2.2.1, B_condition (G_ands d).1, B_expression (G_ands d).2.2.1 (G_ands d).2.2.2.1 (G_ands d).2.2.2.2.2.2.1, B_factor (G_ands d).2.2.2.1 (G_ands d).2.2.2.2.2.1 (G_ands d).2.1, B_opened (G_ands d).2.2.2.1, B_sum (G_ands d).2.2.2.2.2.2.2.1, B_term (G_ands d).2.2.2.2.1, B_test (G_ands d).2.2.2.2.2.2.2.2 (G_ands d).2.2.1 (G_ands d).2.2.2.2.2.2.1)
def F_ands : TS → Option (Int32 × TS) := (G_ands 800).1
def F_call : Int64 → Int32 → TS → Option (Int32 × TS) := (G_ands 800).2.1
def F_condition : TS → Option (Int32 × TS) := (G_ands 800).2.2.1
def F_expression : TS → Option (Int32 × TS) := (G_ands 800).2.2.2.1
def F_factor : TS → Option (Int32 × TS) := (G_ands 800).2.2.2.2.1
def F_opened : Int32 → Int32 → TS → Option (Int32 × TS) := (G_ands 800).2.2.2.2.2.1
def F_sum : TS → Option (Int32 × TS) := (G_ands 800).2.2.2.2.2.2.1
def F_term : TS → Option (Int32 × TS) := (G_ands 800).2.2.2.2.2.2.2.1
def F_test : TS → Option (Int32 × TS) := (G_ands 800).2.2.2.2.2.2.2.2
def F_isDue (x1 : Int32) (σ : TS) : Option (Int32 × TS) :=
  if inb x1 24 then
  if inb (tA σ 153 (ix x1)) 70000 then
  nm ((tA σ 122 (ix (tA σ 153 (ix x1)))).toInt64) fun v3 =>
  if inb x1 24 then
  if inb (tA σ 153 (ix x1)) 70000 then
  nm ((tA σ 123 (ix (tA σ 153 (ix x1)))).toInt64) fun v6 =>
  if lg_cmp ((tI σ 165).toInt64) v3 < 0 then
    some (0, σ)
  else
    if ¬ v6 = 0 then
    if lg_cmp ((((tI σ 165).toInt64) - v3) - (((tI σ 165).toInt64) - v3) / v6 * v6) 0 = 0 then
      some (1, σ)
    else
      some (0, σ)
    else none
  else none
  else none
  else none
  else none
def L_anyDue_2 : Nat → Int32 → TS → Option ((Unit ⊕ Int32) × TS)
  | 0, _, _ => none
  | n + 1, x1, σ =>
    if tI σ 154 ≤ x1 then
      some (.inl (), σ)
    else
      if inb x1 24 then
      if inb (tA σ 153 (ix x1)) 70000 then
      if tA σ 121 (ix (tA σ 153 (ix x1))) = 24 then
        ob (F_isDue x1 σ) fun r5 s4 =>
        if r5 = 0 then
          nm (x1 + 1) fun v8 =>
          L_anyDue_2 n v8 s4
        else
          some (.inr 1, s4)
      else
        nm (x1 + 1) fun v3 =>
        L_anyDue_2 n v3 σ
      else none
      else none
def F_anyDue (σ : TS) : Option (Int32 × TS) :=
  obS (L_anyDue_2 FU 0 σ) (fun r16 s13 => some (r16, s13)) fun q12 s13 =>
  some (0, s13)
def L_areSmall_2 : Nat → Int32 → Int32 → TS → Option ((Unit ⊕ Int32) × TS)
  | 0, _, _, _ => none
  | n + 1, x1, x2, σ =>
    if x1 ≤ x2 then
      some (.inl (), σ)
    else
      if inb x2 180 then
      if tA σ 226 (ix x2) < (-2) then
        some (.inr 0, σ)
      else
        if inb x2 180 then
        if tA σ 226 (ix x2) ≤ 2 then
          nm (x2 + 1) fun v3 =>
          L_areSmall_2 n x1 v3 σ
        else
          some (.inr 0, σ)
        else none
      else none
def F_areSmall (x1 : Int32) (σ : TS) : Option (Int32 × TS) :=
  obS (L_areSmall_2 FU x1 0 σ) (fun r11 s8 => some (r11, s8)) fun q7 s8 =>
  some (1, s8)
def F_isIn (x1 : Int32) (x2 : Int32) (σ : TS) : Option (Int32 × TS) :=
  if inb ((x2 * 200) + x1) 80000 then
  some (tA σ 202 (ix ((x2 * 200) + x1)), σ)
  else none
def F_counts (x1 : Int32) (σ : TS) : Option (Int32 × TS) :=
  if tI σ 205 = 0 then
    if inb x1 200 then
    if 0 ≤ tA σ 189 (ix x1) then
      some (0, σ)
    else
      some (1, σ)
    else none
  else
    if tI σ 205 = 1 then
      if inb x1 200 then
      if tA σ 189 (ix x1) < 0 then
        some (0, σ)
      else
        some (1, σ)
      else none
    else
      if inb x1 200 then
      if tA σ 192 (ix x1) = 2 then
        some (0, σ)
      else
        if inb x1 200 then
        if tA σ 189 (ix x1) < 0 then
          some (1, σ)
        else
          if inb x1 200 then
          if tA σ 192 (ix x1) = 1 then
            some (1, σ)
          else
            some (0, σ)
          else none
        else none
      else none
def L_attempt_79 (cf_attempt : Int32 → TS → Option (Int32 × TS)) : Nat → Int32 → Int32 → TS → Option ((Unit ⊕ Int32) × TS)
  | 0, _, _, _ => none
  | n + 1, x1, x2, σ =>
    if x2 < 0 then
      some (.inl (), σ)
    else
      ob (F_isIn x2 x1 σ) fun r5 s4 =>
      if r5 = 0 then
        nm (x2 + (-1)) fun v8 =>
        L_attempt_79 cf_attempt n x1 v8 s4
      else
        ob (F_counts x2 s4) fun r10 s9 =>
        if r10 = 0 then
          nm (x2 + (-1)) fun v13 =>
          L_attempt_79 cf_attempt n x1 v13 s9
        else
          if inb x2 200 then
          if tA s9 191 (ix x2) < 0 then
            if inb x2 200 then
            nm (tsA s9 191 (ix x2) x1) fun s16 =>
            some (.inr 1, s16)
            else none
          else
            nm (x2 + (-1)) fun v17 =>
            L_attempt_79 cf_attempt n x1 v17 s9
          else none
def J_attempt_157_129 (cf_attempt : Int32 → TS → Option (Int32 × TS)) (rec : Int32 → Int32 → TS → Option ((Unit ⊕ Int32) × TS)) (x1 : Int32) (x2 : Int32) (y0 : Int32) (σ : TS) : Option ((Unit ⊕ Int32) × TS) :=
  ob (F_isIn y0 x1 σ) fun r26 s25 =>
  if r26 = 0 then
    nm (x2 + 1) fun v29 =>
    rec x1 v29 s25
  else
    ob (F_counts y0 s25) fun r31 s30 =>
    if r31 = 0 then
      nm (x2 + 1) fun v34 =>
      rec x1 v34 s30
    else
      if inb y0 200 then
      if tA s30 199 (ix y0) = 0 then
        if inb y0 200 then
        nm (tsA s30 199 (ix y0) (nZ 1)) fun s38 =>
        if inb y0 200 then
        ob (cf_attempt (tA s38 191 (ix y0)) s38) fun r41 s40 =>
        if r41 = 0 then
          nm (x2 + 1) fun v44 =>
          rec x1 v44 s40
        else
          if inb y0 200 then
          nm (tsA s40 191 (ix y0) x1) fun s46 =>
          some (.inr 1, s46)
          else none
        else none
        else none
      else
        nm (x2 + 1) fun v48 =>
        rec x1 v48 s30
      else none
def L_attempt_129 (cf_attempt : Int32 → TS → Option (Int32 × TS)) : Nat → Int32 → Int32 → TS → Option ((Unit ⊕ Int32) × TS)
  | 0, _, _, _ => none
  | n + 1, x1, x2, σ =>
    if tI σ 197 ≤ x2 then
      some (.inl (), σ)
    else
      if tI σ 205 = 1 then
        J_attempt_157_129 cf_attempt (L_attempt_129 cf_attempt n) x1 x2 (((tI σ 197) - 1) - x2) σ
      else
        J_attempt_157_129 cf_attempt (L_attempt_129 cf_attempt n) x1 x2 x2 σ
def J_attempt_127 (cf_attempt : Int32 → TS → Option (Int32 × TS)) (x1 : Int32) (σ : TS) : Option (Int32 × TS) :=
  obS (L_attempt_129 cf_attempt FU x1 0 σ) (fun r58 s55 => some (r58, s55)) fun q54 s55 =>
  some (0, s55)
def L_attempt_17 (cf_attempt : Int32 → TS → Option (Int32 × TS)) : Nat → Int32 → Int32 → TS → Option ((Unit ⊕ Int32) × TS)
  | 0, _, _, _ => none
  | n + 1, x1, x2, σ =>
    if tI σ 197 ≤ x2 then
      some (.inl (), σ)
    else
      ob (F_isIn x2 x1 σ) fun r62 s61 =>
      if r62 = 0 then
        nm (x2 + 1) fun v65 =>
        L_attempt_17 cf_attempt n x1 v65 s61
      else
        ob (F_counts x2 s61) fun r67 s66 =>
        if r67 = 0 then
          nm (x2 + 1) fun v70 =>
          L_attempt_17 cf_attempt n x1 v70 s66
        else
          if inb x2 200 then
          if tA s66 191 (ix x2) < 0 then
            if inb x2 200 then
            nm (tsA s66 191 (ix x2) x1) fun s73 =>
            some (.inr 1, s73)
            else none
          else
            nm (x2 + 1) fun v74 =>
            L_attempt_17 cf_attempt n x1 v74 s66
          else none
def B_attempt (cf_attempt : Int32 → TS → Option (Int32 × TS)) (x1 : Int32) (σ : TS) : Option (Int32 × TS) :=
  if inb x1 400 then
  nm (tsA σ 200 (ix x1) (nZ 1)) fun s2 =>
  if tI s2 205 = 1 then
    nm ((tI s2 197) - 1) fun v3 =>
    obS (L_attempt_79 cf_attempt FU x1 v3 s2) (fun r60 s23 => some (r60, s23)) fun q22 s23 =>
    J_attempt_127 cf_attempt x1 s23
  else
    obS (L_attempt_17 cf_attempt FU x1 0 s2) (fun r83 s80 => some (r83, s80)) fun q79 s80 =>
    J_attempt_127 cf_attempt x1 s80
  else none
def G_attempt : Nat → (Int32 → TS → Option (Int32 × TS))
  | 0 => (fun _ _ => none)
  | d + 1 => (B_attempt (G_attempt d))
def F_attempt : Int32 → TS → Option (Int32 × TS) := (G_attempt 300)
def L_back_12 : Nat → Int32 → Int32 → TS → Option (Unit × TS)
  | 0, _, _, _ => none
  | n + 1, x1, x2, σ =>
    if tI σ 197 ≤ x2 then
      some ((), σ)
    else
      if inb ((x1 * 200) + x2) 400 then
      if inb x2 200 then
      nm (tsA σ 166 (ix x2) (tA σ 228 (ix ((x1 * 200) + x2)))) fun s5 =>
      if inb ((x1 * 200) + x2) 400 then
      if inb x2 200 then
      nm (tsA s5 167 (ix x2) (tA s5 229 (ix ((x1 * 200) + x2)))) fun s8 =>
      nm (x2 + 1) fun v9 =>
      L_back_12 n x1 v9 s8
      else none
      else none
      else none
      else none
def L_back_64 : Nat → Int32 → Int32 → TS → Option (Unit × TS)
  | 0, _, _, _ => none
  | n + 1, x1, x2, σ =>
    if tI σ 107 ≤ x2 then
      some ((), σ)
    else
      if inb ((x1 * 96) + x2) 192 then
      if inb x2 96 then
      nm (tsA σ 168 (ix x2) (tA σ 230 (ix ((x1 * 96) + x2)))) fun s16 =>
      if inb ((x1 * 96) + x2) 192 then
      if inb x2 96 then
      nm (tsA s16 169 (ix x2) (tA s16 231 (ix ((x1 * 96) + x2)))) fun s19 =>
      nm (x2 + 1) fun v20 =>
      L_back_64 n x1 v20 s19
      else none
      else none
      else none
      else none
def L_back_114 : Nat → Int32 → Int32 → TS → Option (Unit × TS)
  | 0, _, _, _ => none
  | n + 1, x1, x2, σ =>
    if tI σ 154 ≤ x2 then
      some ((), σ)
    else
      if inb ((x1 * 24) + x2) 48 then
      if inb x2 24 then
      nm (tsA σ 163 (ix x2) (nZ (tA σ 233 (ix ((x1 * 24) + x2))))) fun s28 =>
      nm (x2 + 1) fun v29 =>
      L_back_114 n x1 v29 s28
      else none
      else none
def L_back_147 : Nat → Int32 → Int32 → TS → Option (Unit × TS)
  | 0, _, _, _ => none
  | n + 1, x1, x2, σ =>
    if tI σ 148 ≤ x2 then
      some ((), σ)
    else
      if inb ((x1 * 12) + x2) 24 then
      if inb x2 12 then
      nm (tsA σ 235 (ix x2) (nZ (tA σ 234 (ix ((x1 * 12) + x2))))) fun s37 =>
      nm (x2 + 1) fun v38 =>
      L_back_147 n x1 v38 s37
      else none
      else none
def F_back (x1 : Int32) (σ : TS) : Option (Unit × TS) :=
  if inb x1 2 then
  nm (tsI σ 165 (tA σ 232 (ix x1))) fun s2 =>
  ob (L_back_12 FU x1 0 s2) fun q11 s12 =>
  ob (L_back_64 FU x1 0 s12) fun q22 s23 =>
  ob (L_back_114 FU x1 0 s23) fun q31 s32 =>
  ob (L_back_147 FU x1 0 s32) fun q40 s41 =>
  some ((), s41)
  else none
def F_bitCount (x0 : Int32) (σ : TS) : Option (Int32 × TS) :=
  nm (x0 - ((((x0).toUInt32 >>> (((1 : Int32)).toUInt32 &&& Int32.toUInt32 31)).toInt32) &&& 1431655765)) fun v1 =>
  nm ((v1 &&& 858993459) + ((((v1).toUInt32 >>> (((2 : Int32)).toUInt32 &&& Int32.toUInt32 31)).toInt32) &&& 858993459)) fun v2 =>
  nm ((v2 + (((v2).toUInt32 >>> (((4 : Int32)).toUInt32 &&& Int32.toUInt32 31)).toInt32)) &&& 252645135) fun v3 =>
  nm (v3 + (((v3).toUInt32 >>> (((8 : Int32)).toUInt32 &&& Int32.toUInt32 31)).toInt32)) fun v4 =>
  nm (v4 + (((v4).toUInt32 >>> (((16 : Int32)).toUInt32 &&& Int32.toUInt32 31)).toInt32)) fun v5 =>
  some (v5 &&& 63, σ)
def J_block_78 (x1 : Int32) (x2 : Int32) (y0 : Int32) (σ : TS) : Option (Int32 × TS) :=
  if inb x1 400 then
  if y0 < tA σ 210 (ix x1) then
    if x2 < 100 then
      if inb x1 400 then
      if inb ((tA σ 209 (ix x1)) + y0) 400 then
      some (tA σ 211 (ix ((tA σ 209 (ix x1)) + y0)), σ)
      else none
      else none
    else
      if inb x1 400 then
      if inb ((tA σ 209 (ix x1)) + y0) 400 then
      some (tA σ 212 (ix ((tA σ 209 (ix x1)) + y0)), σ)
      else none
      else none
  else
    some ((-2), σ)
  else none
def F_block (x1 : Int32) (x2 : Int32) (σ : TS) : Option (Int32 × TS) :=
  if tI σ 109 = 0 then
    some ((-4), σ)
  else
    if x1 < 0 then
      some ((-2), σ)
    else
      if x1 < tI σ 208 then
        if 0 ≤ x2 then
          if x2 = 0 then
            if inb x1 400 then
            some (tA σ 210 (ix x1), σ)
            else none
          else
            if x2 = 1 then
              if inb x1 400 then
              if tA σ 213 (ix x1) = 0 then
                some (0, σ)
              else
                some (1, σ)
              else none
            else
              if x2 < 100 then
                J_block_78 x1 x2 (x2 - 2) σ
              else
                J_block_78 x1 x2 (x2 - 100) σ
        else
          some ((-1), σ)
      else
        some ((-2), σ)
def F_isTwo (x0 : Int32) (σ : TS) : Option (Int32 × TS) :=
  if x0 = 5 then
    some (1, σ)
  else
    if x0 = 6 then
      some (1, σ)
    else
      if x0 = 8 then
        some (1, σ)
      else
        if x0 = 9 then
          some (1, σ)
        else
          if x0 = 14 then
            some (1, σ)
          else
            if x0 = 15 then
              some (1, σ)
            else
              if x0 = 21 then
                some (1, σ)
              else
                if x0 = 22 then
                  some (1, σ)
                else
                  some (0, σ)
def J_make_485 (x5 : Int32) (σ : TS) : Option (Int32 × TS) :=
  if tI σ 129 = 0 then
    some (x5, σ)
  else
    nm (tsI σ 127 ((tI σ 127) + 1)) fun s23 =>
    if tI s23 127 ≤ 12000 then
      some (x5, s23)
    else
      ob (F_bad 24 0 s23) fun r25 s24 =>
      some (x5, s24)
def J_make_433 (x5 : Int32) (x7 : Int32) (σ : TS) : Option (Int32 × TS) :=
  if inb x5 70000 then
  nm (tsA σ 134 (ix x5) (x7 + 1)) fun s20 =>
  if tI s20 129 = 0 then
    if tI s20 130 = 0 then
      J_make_485 x5 s20
    else
      nm (tsI s20 131 ((tI s20 131) + 1)) fun s31 =>
      if tI s31 131 ≤ 1000 then
        J_make_485 x5 s31
      else
        ob (F_bad 24 0 s31) fun r33 s32 =>
        J_make_485 x5 s32
  else
    J_make_485 x5 s20
  else none
def J_make_312 (x3 : Int32) (x4 : Int32) (x5 : Int32) (σ : TS) : Option (Int32 × TS) :=
  if inb x3 70000 then
  if inb x4 70000 then
  nm (mmax (tA σ 134 (ix x3)) (tA σ 134 (ix x4))) fun v18 =>
  J_make_433 x5 v18 σ
  else none
  else none
def J_make_428 (x5 : Int32) (y0 : Int32) (y1 : Int32) (σ : TS) : Option (Int32 × TS) :=
  nm (mmax y0 y1) fun v44 =>
  J_make_433 x5 v44 σ
def J_make_282 (x1 : Int32) (x2 : Int32) (x3 : Int32) (x4 : Int32) (x5 : Int32) (x6 : Int32) (σ : TS) : Option (Int32 × TS) :=
  if inb x5 70000 then
  nm (tsA σ 125 (ix x5) (mmin x6 1000000)) fun s15 =>
  if x1 = 20 then
    J_make_312 x3 x4 x5 s15
  else
    if x1 = 25 then
      J_make_312 x3 x4 x5 s15
    else
      if x1 = 16 then
        if inb x2 70000 then
        if inb x3 70000 then
        if inb x4 70000 then
        nm (mmax (tA s15 134 (ix x2)) (mmax (tA s15 134 (ix x3)) (tA s15 134 (ix x4)))) fun v57 =>
        J_make_433 x5 v57 s15
        else none
        else none
        else none
      else
        if x1 = 0 then
          J_make_433 x5 0 s15
        else
          if x1 = 2 then
            J_make_433 x5 0 s15
          else
            if x1 = 3 then
              J_make_433 x5 0 s15
            else
              if x1 = 4 then
                J_make_433 x5 0 s15
              else
                if x1 = 30 then
                  J_make_433 x5 0 s15
                else
                  if x1 = 24 then
                    J_make_433 x5 0 s15
                  else
                    if x1 = 1 then
                      J_make_433 x5 0 s15
                    else
                      if inb x2 70000 then
                      ob (F_isTwo x1 s15) fun r41 s40 =>
                      if r41 = 0 then
                        J_make_428 x5 (tA s15 134 (ix x2)) 0 s40
                      else
                        if inb x3 70000 then
                        J_make_428 x5 (tA s15 134 (ix x2)) (tA s40 134 (ix x3)) s40
                        else none
                      else none
  else none
def J_make_145 (x1 : Int32) (x2 : Int32) (x3 : Int32) (x4 : Int32) (x5 : Int32) (x6 : Int32) (σ : TS) : Option (Int32 × TS) :=
  if inb x2 70000 then
  if inb x3 70000 then
  nm (x6 + ((tA σ 125 (ix x2)) + (tA σ 125 (ix x3)))) fun v13 =>
  J_make_282 x1 x2 x3 x4 x5 v13 σ
  else none
  else none
def J_make_202 (x1 : Int32) (x2 : Int32) (x3 : Int32) (x4 : Int32) (x5 : Int32) (x6 : Int32) (σ : TS) : Option (Int32 × TS) :=
  if inb x2 70000 then
  nm (x6 + (tA σ 125 (ix x2))) fun v62 =>
  J_make_282 x1 x2 x3 x4 x5 v62 σ
  else none
def J_make_263 (x1 : Int32) (x2 : Int32) (x3 : Int32) (x4 : Int32) (x5 : Int32) (x6 : Int32) (σ : TS) : Option (Int32 × TS) :=
  if inb x3 70000 then
  if inb x4 70000 then
  nm (x6 + ((tA σ 125 (ix x3)) + (tA σ 125 (ix x4)))) fun v65 =>
  J_make_282 x1 x2 x3 x4 x5 v65 σ
  else none
  else none
def F_make (x1 : Int32) (x2 : Int32) (x3 : Int32) (x4 : Int32) (σ : TS) : Option (Int32 × TS) :=
  if tI σ 126 = 70000 then
    if tI σ 130 = 0 then
      if tI σ 130 = 0 then
        ob (F_bad 52 (tI σ 204) σ) fun r90 s89 =>
        some (0, s89)
      else
        ob (F_bad 52 0 σ) fun r94 s93 =>
        some (0, s93)
    else
      if tI σ 130 = 0 then
        ob (F_bad 24 (tI σ 204) σ) fun r100 s99 =>
        some (0, s99)
      else
        ob (F_bad 24 0 σ) fun r104 s103 =>
        some (0, s103)
  else
    nm (tI σ 126) fun v1 =>
    nm (tsI σ 126 ((tI σ 126) + 1)) fun s2 =>
    if inb v1 70000 then
    nm (tsA s2 121 (ix v1) (nB (nB (x1)))) fun s4 =>
    if inb v1 70000 then
    nm (tsA s4 122 (ix v1) x2) fun s6 =>
    if inb v1 70000 then
    nm (tsA s6 123 (ix v1) x3) fun s8 =>
    if inb v1 70000 then
    nm (tsA s8 124 (ix v1) x4) fun s10 =>
    if x1 = 5 then
      J_make_145 x1 x2 x3 x4 v1 1 s10
    else
      if x1 = 6 then
        J_make_145 x1 x2 x3 x4 v1 1 s10
      else
        if x1 = 8 then
          J_make_145 x1 x2 x3 x4 v1 1 s10
        else
          if x1 = 9 then
            J_make_145 x1 x2 x3 x4 v1 1 s10
          else
            if x1 = 14 then
              J_make_145 x1 x2 x3 x4 v1 1 s10
            else
              if x1 = 15 then
                J_make_145 x1 x2 x3 x4 v1 1 s10
              else
                if x1 = 21 then
                  J_make_145 x1 x2 x3 x4 v1 1 s10
                else
                  if x1 = 22 then
                    J_make_145 x1 x2 x3 x4 v1 1 s10
                  else
                    if x1 = 7 then
                      J_make_202 x1 x2 x3 x4 v1 1 s10
                    else
                      if x1 = 10 then
                        J_make_202 x1 x2 x3 x4 v1 1 s10
                      else
                        if x1 = 11 then
                          J_make_202 x1 x2 x3 x4 v1 1 s10
                        else
                          if x1 = 12 then
                            J_make_202 x1 x2 x3 x4 v1 1 s10
                          else
                            if x1 = 13 then
                              J_make_202 x1 x2 x3 x4 v1 1 s10
                            else
                              if x1 = 23 then
                                J_make_202 x1 x2 x3 x4 v1 1 s10
                              else
                                if x1 = 16 then
                                  if inb x2 70000 then
                                  if inb x3 70000 then
                                  if inb x4 70000 then
                                  nm (1 + (((tA s10 125 (ix x2)) + (tA s10 125 (ix x3))) + (tA s10 125 (ix x4)))) fun v71 =>
                                  J_make_282 x1 x2 x3 x4 v1 v71 s10
                                  else none
                                  else none
                                  else none
                                else
                                  if x1 = 20 then
                                    J_make_263 x1 x2 x3 x4 v1 1 s10
                                  else
                                    if x1 = 25 then
                                      J_make_263 x1 x2 x3 x4 v1 1 s10
                                    else
                                      J_make_282 x1 x2 x3 x4 v1 1 s10
    else none
    else none
    else none
    else none
def L_memberOf_8 : Nat → Int64 → Int32 → TS → Option ((Unit ⊕ Int32) × TS)
  | 0, _, _, _ => none
  | n + 1, x2, x4, σ =>
    if x4 < 0 then
      some (.inl (), σ)
    else
      if inb x4 96001 then
      if inb (tA σ 84 (ix x4)) 481 then
      if lg_cmp (tB σ 50 (ix (tA σ 84 (ix x4)))) x2 = 0 then
        some (.inr x4, σ)
      else
        if inb x4 96001 then
        nm (tA σ 87 (ix x4)) fun v6 =>
        L_memberOf_8 n x2 v6 σ
        else none
      else none
      else none
def F_memberOf (x1 : Int32) (x2 : Int64) (σ : TS) : Option (Int32 × TS) :=
  if inb x1 200 then
  nm (tA σ 88 (ix x1)) fun v2 =>
  obS (L_memberOf_8 FU x2 v2 σ) (fun r13 s10 => some (r13, s10)) fun q9 s10 =>
  some ((-1), s10)
  else none
def L_innerOf_19 : Nat → Int32 → Int32 → TS → Option ((Unit ⊕ Int32) × TS)
  | 0, _, _, _ => none
  | n + 1, x2, x3, σ =>
    if x3 < 0 then
      some (.inl (), σ)
    else
      if inb x2 481 then
      ob (F_memberOf x3 (tB σ 50 (ix x2)) σ) fun r8 s7 =>
      if r8 < 0 then
        if inb x3 200 then
        nm (tA s7 75 (ix x3)) fun v12 =>
        L_innerOf_19 n x2 v12 s7
        else none
      else
        if inb r8 96001 then
        if inb (tA s7 84 (ix r8)) 481 then
        if (tA s7 52 (ix (tA s7 84 (ix r8)))) &&& 8 = 0 then
          if inb x3 200 then
          nm (tA s7 75 (ix x3)) fun v46 =>
          L_innerOf_19 n x2 v46 s7
          else none
        else
          if inb r8 96001 then
          nm (tA s7 84 (ix r8)) fun v16 =>
          if inb v16 481 then
          if inb x2 481 then
          if lg_cmp (tB s7 51 (ix v16)) (tB s7 51 (ix x2)) = 0 then
            if inb x2 481 then
            if lg_cmp (tB s7 51 (ix x2)) 0 = 0 then
              if inb v16 481 then
              if inb x2 481 then
              if tA s7 54 (ix v16) = tA s7 54 (ix x2) then
                if (1 : Int32) = 0 then
                  ob (F_bad 22 0 s7) fun r38 s37 =>
                  some (.inr (-1), s37)
                else
                  some (.inr r8, s7)
              else
                if (0 : Int32) = 0 then
                  ob (F_bad 22 0 s7) fun r33 s32 =>
                  some (.inr (-1), s32)
                else
                  some (.inr r8, s7)
              else none
              else none
            else
              if (1 : Int32) = 0 then
                ob (F_bad 22 0 s7) fun r26 s25 =>
                some (.inr (-1), s25)
              else
                some (.inr r8, s7)
            else none
          else
            if (0 : Int32) = 0 then
              ob (F_bad 22 0 s7) fun r20 s19 =>
              some (.inr (-1), s19)
            else
              some (.inr r8, s7)
          else none
          else none
          else none
        else none
        else none
      else none
def F_innerOf (x1 : Int32) (σ : TS) : Option (Int32 × TS) :=
  if inb x1 96001 then
  nm (tA σ 84 (ix x1)) fun v2 =>
  if inb x1 96001 then
  if inb (tA σ 83 (ix x1)) 200 then
  nm (tA σ 75 (ix (tA σ 83 (ix x1)))) fun v5 =>
  obS (L_innerOf_19 FU v2 v5 σ) (fun r58 s51 => some (r58, s51)) fun q50 s51 =>
  ob (F_bad 25 0 s51) fun r54 s53 =>
  some ((-1), s53)
  else none
  else none
  else none
def L_indexOf_24 : Nat → Int32 → Int32 → TS → Option ((Unit ⊕ Int32) × TS)
  | 0, _, _, _ => none
  | n + 1, x1, x2, σ =>
    if x2 < 0 then
      some (.inl (), σ)
    else
      if inb x2 20 then
      if inb x1 7000 then
      if lg_cmp (tB σ 115 (ix x2)) (tB σ 30 (ix x1)) = 0 then
        if inb x2 20 then
        if inb x1 7000 then
        some (.inr ((tA σ 116 (ix x2)) + (tA σ 32 (ix x1))), σ)
        else none
        else none
      else
        nm (x2 + (-1)) fun v5 =>
        L_indexOf_24 n x1 v5 σ
      else none
      else none
def F_indexOf (x1 : Int32) (σ : TS) : Option (Int32 × TS) :=
  if inb x1 7000 then
  if tA σ 31 (ix x1) = 1 then
    if inb x1 7000 then
    some (tA σ 32 (ix x1), σ)
    else none
  else
    nm ((tI σ 117) - 1) fun v2 =>
    obS (L_indexOf_24 FU x1 v2 σ) (fun r15 s11 => some (r15, s11)) fun q10 s11 =>
    if inb x1 7000 then
    some (tA s11 32 (ix x1), s11)
    else none
  else none
def L_instanceOf_2 : Nat → Int32 → Int32 → Int32 → TS → Option ((Unit ⊕ Int32) × TS)
  | 0, _, _, _, _ => none
  | n + 1, x1, x2, x3, σ =>
    if tI σ 82 ≤ x3 then
      some (.inl (), σ)
    else
      if x3 ≤ 0 then
        nm (x3 + 1) fun v1 =>
        L_instanceOf_2 n x1 x2 v1 σ
      else
        if inb x3 200 then
        if inb x1 96001 then
        if tA σ 75 (ix x3) = tA σ 83 (ix x1) then
          if inb x3 200 then
          if inb x1 96001 then
          if tA σ 76 (ix x3) = tA σ 84 (ix x1) then
            if inb x3 200 then
            if tA σ 77 (ix x3) = x2 then
              some (.inr x3, σ)
            else
              nm (x3 + 1) fun v9 =>
              L_instanceOf_2 n x1 x2 v9 σ
            else none
          else
            nm (x3 + 1) fun v7 =>
            L_instanceOf_2 n x1 x2 v7 σ
          else none
          else none
        else
          nm (x3 + 1) fun v4 =>
          L_instanceOf_2 n x1 x2 v4 σ
        else none
        else none
def F_instanceOf (x1 : Int32) (x2 : Int32) (σ : TS) : Option (Int32 × TS) :=
  obS (L_instanceOf_2 FU x1 x2 0 σ) (fun r19 s16 => some (r19, s16)) fun q15 s16 =>
  some ((-1), s16)
def J_resolve_198_20 (rec : Int32 → Int32 → TS → Option ((Unit ⊕ Unit) × TS)) (x4 : Int32) (x5 : Int32) (x6 : Int32) (x7 : Int32) (x8 : Int32) (σ : TS) : Option ((Unit ⊕ Unit) × TS) :=
  nm (tsI σ 120 ((tI σ 120) + 1)) fun s24 =>
  if inb x6 481 then
  if lg_cmp (tB s24 51 (ix x6)) 0 = 0 then
    if inb x4 7000 then
    if tA s24 33 (ix x4) = 0 then
      if inb x5 96001 then
      if x7 ≤ 0 then
        nm (tsI s24 119 ((tA s24 85 (ix x5)) + 0)) fun s35 =>
        some (.inr (), s35)
      else
        nm (tsI s24 119 ((tA s24 85 (ix x5)) + (x8 - 1))) fun s36 =>
        some (.inr (), s36)
      else none
    else
      ob (F_bad 26 0 s24) fun r39 s38 =>
      some (.inr (), s38)
    else none
  else
    ob (F_instanceOf x5 x8 s24) fun r27 s26 =>
    nm (tsI s26 118 r27) fun s30 =>
    if inb x4 7000 then
    nm (tA s30 33 (ix x4)) fun v32 =>
    rec r27 v32 s30
    else none
  else none
def J_resolve_170_20 (rec : Int32 → Int32 → TS → Option ((Unit ⊕ Unit) × TS)) (x4 : Int32) (x5 : Int32) (x6 : Int32) (x7 : Int32) (y0 : Int32) (σ : TS) : Option ((Unit ⊕ Unit) × TS) :=
  if x7 ≤ 0 then
    J_resolve_198_20 rec x4 x5 x6 x7 y0 σ
  else
    if y0 < 1 then
      ob (F_bad 27 0 σ) fun r45 s44 =>
      some (.inr (), s44)
    else
      if y0 ≤ x7 then
        J_resolve_198_20 rec x4 x5 x6 x7 y0 σ
      else
        ob (F_bad 27 0 σ) fun r49 s48 =>
        some (.inr (), s48)
def J_resolve_144_20 (rec : Int32 → Int32 → TS → Option ((Unit ⊕ Unit) × TS)) (x4 : Int32) (x5 : Int32) (x6 : Int32) (x7 : Int32) (y0 : Int32) (y1 : Int32) (σ : TS) : Option ((Unit ⊕ Unit) × TS) :=
  if y0 = y1 then
    if x7 ≤ 0 then
      J_resolve_170_20 rec x4 x5 x6 x7 0 σ
    else
      ob (F_indexOf x4 σ) fun r56 s55 =>
      J_resolve_170_20 rec x4 x5 x6 x7 r56 s55
  else
    ob (F_bad 27 0 σ) fun r61 s60 =>
    some (.inr (), s60)
def J_resolve_134_20 (rec : Int32 → Int32 → TS → Option ((Unit ⊕ Unit) × TS)) (x4 : Int32) (x5 : Int32) (x6 : Int32) (x7 : Int32) (y0 : Int32) (σ : TS) : Option ((Unit ⊕ Unit) × TS) :=
  if x7 ≤ 0 then
    J_resolve_144_20 rec x4 x5 x6 x7 y0 0 σ
  else
    J_resolve_144_20 rec x4 x5 x6 x7 y0 1 σ
def J_resolve_93_20 (rec : Int32 → Int32 → TS → Option ((Unit ⊕ Unit) × TS)) (x4 : Int32) (x5 : Int32) (σ : TS) : Option ((Unit ⊕ Unit) × TS) :=
  ob (F_isBad σ) fun r16 s15 =>
  if r16 = 0 then
    if inb x5 96001 then
    nm (tA s15 84 (ix x5)) fun v20 =>
    if inb v20 481 then
    nm (tA s15 53 (ix v20)) fun v22 =>
    if inb x4 7000 then
    if tA s15 31 (ix x4) = 0 then
      J_resolve_134_20 rec x4 x5 v20 v22 0 s15
    else
      J_resolve_134_20 rec x4 x5 v20 v22 1 s15
    else none
    else none
    else none
  else
    some (.inr (), s15)
def J_resolve_52_20 (rec : Int32 → Int32 → TS → Option ((Unit ⊕ Unit) × TS)) (x4 : Int32) (y0 : Int32) (σ : TS) : Option ((Unit ⊕ Unit) × TS) :=
  if 0 ≤ y0 then
    if inb y0 96001 then
    if inb (tA σ 84 (ix y0)) 481 then
    if (tA σ 52 (ix (tA σ 84 (ix y0)))) &&& 16 = 0 then
      J_resolve_93_20 rec x4 y0 σ
    else
      ob (F_innerOf y0 σ) fun r69 s68 =>
      J_resolve_93_20 rec x4 r69 s68
    else none
    else none
  else
    ob (F_bad 26 0 σ) fun r74 s73 =>
    some (.inr (), s73)
def L_resolve_20 : Nat → Int32 → Int32 → TS → Option ((Unit ⊕ Unit) × TS)
  | 0, _, _, _ => none
  | n + 1, x3, x4, σ =>
    if x4 = 0 then
      some (.inl (), σ)
    else
      ob (F_isBad σ) fun r5 s4 =>
      if r5 = 0 then
        if 0 ≤ x3 then
          if inb x4 7000 then
          ob (F_memberOf x3 (tB s4 29 (ix x4)) s4) fun r10 s9 =>
          J_resolve_52_20 (L_resolve_20 n) x4 r10 s9
          else none
        else
          J_resolve_52_20 (L_resolve_20 n) x4 (-1) s4
      else
        some (.inl (), s4)
def F_resolve (x1 : Int32) (x2 : Int32) (σ : TS) : Option (Unit × TS) :=
  nm (tsI σ 119 (-1)) fun s1 =>
  nm (tsI s1 118 (-1)) fun s2 =>
  nm (tsI s2 120 0) fun s3 =>
  obS (L_resolve_20 FU x2 x1 s3) (fun r85 s82 => some (r85, s82)) fun q81 s82 =>
  some ((), s82)
def F_variableOf (x1 : Int32) (x2 : Int32) (σ : TS) : Option (Int32 × TS) :=
  ob (F_resolve x1 x2 σ) fun r2 s1 =>
  ob (F_isBad s1) fun r6 s5 =>
  if r6 = 0 then
    if 0 ≤ tI s5 119 then
      ob (F_isBad s5) fun r15 s14 =>
      if r15 = 0 then
        some (tI s14 119, s14)
      else
        some ((-1), s14)
    else
      ob (F_bad 26 0 s5) fun r20 s19 =>
      ob (F_isBad s19) fun r24 s23 =>
      if r24 = 0 then
        some (tI s23 119, s23)
      else
        some ((-1), s23)
  else
    ob (F_isBad s5) fun r10 s9 =>
    if r10 = 0 then
      some (tI s9 119, s9)
    else
      some ((-1), s9)
def L_build_248 (cf_build : Int32 → Int32 → Int32 → Int32 → TS → Option (Int32 × TS)) : Nat → Int32 → Int32 → Int32 → TS → Option (Int32 × TS)
  | 0, _, _, _, _ => none
  | n + 1, x1, x6, x7, σ =>
    if tI σ 117 ≤ x7 then
      some (x6, σ)
    else
      if inb x7 20 then
      if inb x1 9000 then
      if inb (tA σ 25 (ix x1)) 7000 then
      if lg_cmp (tB σ 115 (ix x7)) (tB σ 29 (ix (tA σ 25 (ix x1)))) = 0 then
        if inb x7 20 then
        nm (tA σ 116 (ix x7)) fun v441 =>
        nm (x7 + 1) fun v442 =>
        L_build_248 cf_build n x1 v441 v442 σ
        else none
      else
        nm (x7 + 1) fun v439 =>
        L_build_248 cf_build n x1 x6 v439 σ
      else none
      else none
      else none
def L_build_695 (cf_build : Int32 → Int32 → Int32 → Int32 → TS → Option (Int32 × TS)) : Nat → Int32 → Int32 → Int32 → Int32 → Int32 → Int32 → TS → Option (Int32 × TS)
  | 0, _, _, _, _, _, _, _ => none
  | n + 1, x1, x2, x3, x4, x6, x7, σ =>
    if inb x1 9000 then
    if tA σ 25 (ix x1) ≤ x7 then
      some (x6, σ)
    else
      if inb x6 9000 then
      nm (tA σ 26 (ix x6)) fun v458 =>
      nm (x7 + 1) fun v459 =>
      L_build_695 cf_build n x1 x2 x3 x4 v458 v459 σ
      else none
    else none
def J_build_21 (cf_build : Int32 → Int32 → Int32 → Int32 → TS → Option (Int32 × TS)) (x1 : Int32) (x2 : Int32) (x3 : Int32) (x4 : Int32) (σ : TS) : Option (Int32 × TS) :=
  ob (F_isBad σ) fun r6 s5 =>
  if r6 = 0 then
    if inb x1 9000 then
    nm (tA s5 24 (ix x1)) fun v10 =>
    if v10 = 0 then
      if inb x1 9000 then
      ob (F_make 0 (tA s5 25 (ix x1)) 0 0 s5) fun r14 s13 =>
      some (r14, s13)
      else none
    else
    if v10 = 1 then
      if tI s5 138 = 0 then
        ob (F_make 1 0 0 0 s5) fun r20 s19 =>
        some (r20, s19)
      else
        ob (F_bad 28 0 s5) fun r24 s23 =>
        ob (F_make 1 0 0 0 s23) fun r28 s27 =>
        some (r28, s27)
    else
    if v10 = 2 then
      if inb x1 9000 then
      ob (F_variableOf (tA s5 25 (ix x1)) x2 s5) fun r35 s34 =>
      ob (F_isBad s34) fun r39 s38 =>
      if r39 = 0 then
        if tI s38 138 = 0 then
          ob (F_make 2 r35 0 0 s38) fun r48 s47 =>
          some (r48, s47)
        else
          if inb r35 96 then
          if tA s38 94 (ix r35) = 1 then
            ob (F_make 2 r35 0 0 s38) fun r53 s52 =>
            some (r53, s52)
          else
            ob (F_bad 28 0 s38) fun r57 s56 =>
            ob (F_make 2 r35 0 0 s56) fun r61 s60 =>
            some (r61, s60)
          else none
      else
        ob (F_make 2 r35 0 0 s38) fun r43 s42 =>
        some (r43, s42)
      else none
    else
    if v10 = 3 then
      if tI s5 138 = 0 then
        if inb x1 9000 then
        ob (F_variableOf (tA s5 25 (ix x1)) x2 s5) fun r71 s70 =>
        ob (F_isBad s70) fun r75 s74 =>
        if r75 = 0 then
          if v10 = 3 then
            if inb r71 96 then
            if tA s74 94 (ix r71) = 0 then
              ob (F_make v10 r71 0 0 s74) fun r98 s97 =>
              some (r98, s97)
            else
              ob (F_bad 29 0 s74) fun r102 s101 =>
              ob (F_make v10 r71 0 0 s101) fun r106 s105 =>
              some (r106, s105)
            else none
          else
            if inb r71 96 then
            if tA s74 94 (ix r71) = 1 then
              ob (F_bad 29 0 s74) fun r88 s87 =>
              ob (F_make v10 r71 0 0 s87) fun r92 s91 =>
              some (r92, s91)
            else
              ob (F_make v10 r71 0 0 s74) fun r84 s83 =>
              some (r84, s83)
            else none
        else
          ob (F_make v10 r71 0 0 s74) fun r79 s78 =>
          some (r79, s78)
        else none
      else
        ob (F_bad 28 0 s5) fun r113 s112 =>
        some (0, s112)
    else
    if v10 = 4 then
      if tI s5 138 = 0 then
        if inb x1 9000 then
        ob (F_variableOf (tA s5 25 (ix x1)) x2 s5) fun r121 s120 =>
        ob (F_isBad s120) fun r125 s124 =>
        if r125 = 0 then
          if v10 = 3 then
            if inb r121 96 then
            if tA s124 94 (ix r121) = 0 then
              ob (F_make v10 r121 0 0 s124) fun r148 s147 =>
              some (r148, s147)
            else
              ob (F_bad 29 0 s124) fun r152 s151 =>
              ob (F_make v10 r121 0 0 s151) fun r156 s155 =>
              some (r156, s155)
            else none
          else
            if inb r121 96 then
            if tA s124 94 (ix r121) = 1 then
              ob (F_bad 29 0 s124) fun r138 s137 =>
              ob (F_make v10 r121 0 0 s137) fun r142 s141 =>
              some (r142, s141)
            else
              ob (F_make v10 r121 0 0 s124) fun r134 s133 =>
              some (r134, s133)
            else none
        else
          ob (F_make v10 r121 0 0 s124) fun r129 s128 =>
          some (r129, s128)
        else none
      else
        ob (F_bad 28 0 s5) fun r163 s162 =>
        some (0, s162)
    else
    if v10 = 5 then
      if inb x1 9000 then
      ob (cf_build (tA s5 25 (ix x1)) x2 x3 (x4 + 1) s5) fun r170 s169 =>
      if inb x1 9000 then
      ob (cf_build (tA s169 26 (ix x1)) x2 x3 (x4 + 1) s169) fun r175 s174 =>
      ob (F_make v10 r170 r175 0 s174) fun r179 s178 =>
      some (r179, s178)
      else none
      else none
    else
    if v10 = 6 then
      if inb x1 9000 then
      ob (cf_build (tA s5 25 (ix x1)) x2 x3 (x4 + 1) s5) fun r185 s184 =>
      if inb x1 9000 then
      ob (cf_build (tA s184 26 (ix x1)) x2 x3 (x4 + 1) s184) fun r190 s189 =>
      ob (F_make v10 r185 r190 0 s189) fun r194 s193 =>
      some (r194, s193)
      else none
      else none
    else
    if v10 = 7 then
      if inb x1 9000 then
      ob (cf_build (tA s5 25 (ix x1)) x2 x3 (x4 + 1) s5) fun r200 s199 =>
      ob (F_make v10 r200 0 0 s199) fun r204 s203 =>
      some (r204, s203)
      else none
    else
    if v10 = 8 then
      if inb x1 9000 then
      ob (cf_build (tA s5 25 (ix x1)) x2 x3 (x4 + 1) s5) fun r210 s209 =>
      if inb x1 9000 then
      ob (cf_build (tA s209 26 (ix x1)) x2 x3 (x4 + 1) s209) fun r215 s214 =>
      ob (F_make v10 r210 r215 0 s214) fun r219 s218 =>
      some (r219, s218)
      else none
      else none
    else
    if v10 = 9 then
      if inb x1 9000 then
      ob (cf_build (tA s5 25 (ix x1)) x2 x3 (x4 + 1) s5) fun r225 s224 =>
      if inb x1 9000 then
      ob (cf_build (tA s224 26 (ix x1)) x2 x3 (x4 + 1) s224) fun r230 s229 =>
      ob (F_make v10 r225 r230 0 s229) fun r234 s233 =>
      some (r234, s233)
      else none
      else none
    else
    if v10 = 10 then
      if inb x1 9000 then
      ob (cf_build (tA s5 25 (ix x1)) x2 x3 (x4 + 1) s5) fun r240 s239 =>
      ob (F_make v10 r240 0 0 s239) fun r244 s243 =>
      some (r244, s243)
      else none
    else
    if v10 = 11 then
      if inb x1 9000 then
      ob (cf_build (tA s5 25 (ix x1)) x2 x3 (x4 + 1) s5) fun r250 s249 =>
      ob (F_make v10 r250 0 0 s249) fun r254 s253 =>
      some (r254, s253)
      else none
    else
    if v10 = 12 then
      if inb x1 9000 then
      ob (cf_build (tA s5 25 (ix x1)) x2 x3 (x4 + 1) s5) fun r260 s259 =>
      ob (F_make v10 r260 0 0 s259) fun r264 s263 =>
      some (r264, s263)
      else none
    else
    if v10 = 13 then
      if inb x1 9000 then
      ob (cf_build (tA s5 25 (ix x1)) x2 x3 (x4 + 1) s5) fun r270 s269 =>
      ob (F_make v10 r270 0 0 s269) fun r274 s273 =>
      some (r274, s273)
      else none
    else
    if v10 = 14 then
      if inb x1 9000 then
      ob (cf_build (tA s5 25 (ix x1)) x2 x3 (x4 + 1) s5) fun r280 s279 =>
      if inb x1 9000 then
      ob (cf_build (tA s279 26 (ix x1)) x2 x3 (x4 + 1) s279) fun r285 s284 =>
      ob (F_make v10 r280 r285 0 s284) fun r289 s288 =>
      some (r289, s288)
      else none
      else none
    else
    if v10 = 15 then
      if inb x1 9000 then
      ob (cf_build (tA s5 25 (ix x1)) x2 x3 (x4 + 1) s5) fun r295 s294 =>
      if inb x1 9000 then
      ob (cf_build (tA s294 26 (ix x1)) x2 x3 (x4 + 1) s294) fun r300 s299 =>
      ob (F_make v10 r295 r300 0 s299) fun r304 s303 =>
      some (r304, s303)
      else none
      else none
    else
    if v10 = 16 then
      if inb x1 9000 then
      ob (cf_build (tA s5 25 (ix x1)) x2 x3 (x4 + 1) s5) fun r310 s309 =>
      if inb x1 9000 then
      ob (cf_build (tA s309 26 (ix x1)) x2 x3 (x4 + 1) s309) fun r315 s314 =>
      if inb x1 9000 then
      ob (cf_build (tA s314 27 (ix x1)) x2 x3 (x4 + 1) s314) fun r320 s319 =>
      ob (F_make 16 r310 r315 r320 s319) fun r324 s323 =>
      some (r324, s323)
      else none
      else none
      else none
    else
    if v10 = 17 then
      some (0, s5)
    else
    if v10 = 18 then
      some (0, s5)
    else
    if v10 = 19 then
      some (0, s5)
    else
    if v10 = 20 then
      if inb x1 9000 then
      ob (cf_build (tA s5 26 (ix x1)) x2 x3 (x4 + 1) s5) fun r333 s332 =>
      if inb x1 9000 then
      if inb x1 9000 then
      ob (cf_build (tA s332 27 (ix x1)) x2 x3 (x4 + 1) s332) fun r339 s338 =>
      ob (F_make 20 (tA s332 25 (ix x1)) r333 r339 s338) fun r343 s342 =>
      some (r343, s342)
      else none
      else none
      else none
    else
    if v10 = 21 then
      if inb x1 9000 then
      ob (cf_build (tA s5 25 (ix x1)) x2 x3 (x4 + 1) s5) fun r349 s348 =>
      if inb x1 9000 then
      ob (cf_build (tA s348 26 (ix x1)) x2 x3 (x4 + 1) s348) fun r354 s353 =>
      ob (F_make v10 r349 r354 0 s353) fun r358 s357 =>
      some (r358, s357)
      else none
      else none
    else
    if v10 = 22 then
      if inb x1 9000 then
      ob (cf_build (tA s5 25 (ix x1)) x2 x3 (x4 + 1) s5) fun r364 s363 =>
      if inb x1 9000 then
      ob (cf_build (tA s363 26 (ix x1)) x2 x3 (x4 + 1) s363) fun r369 s368 =>
      ob (F_make v10 r364 r369 0 s368) fun r373 s372 =>
      some (r373, s372)
      else none
      else none
    else
    if v10 = 23 then
      if inb x1 9000 then
      ob (cf_build (tA s5 25 (ix x1)) x2 x3 (x4 + 1) s5) fun r379 s378 =>
      ob (F_make v10 r379 0 0 s378) fun r383 s382 =>
      some (r383, s382)
      else none
    else
    if v10 = 24 then
      if tI s5 138 = 0 then
        if inb x1 9000 then
        if inb x1 9000 then
        ob (F_make 24 (tA s5 25 (ix x1)) (tA s5 26 (ix x1)) 0 s5) fun r391 s390 =>
        some (r391, s390)
        else none
        else none
      else
        ob (F_bad 28 0 s5) fun r395 s394 =>
        if inb x1 9000 then
        if inb x1 9000 then
        ob (F_make 24 (tA s394 25 (ix x1)) (tA s394 26 (ix x1)) 0 s394) fun r401 s400 =>
        some (r401, s400)
        else none
        else none
    else
    if v10 = 25 then
      some (0, s5)
    else
    if v10 = 26 then
      some (0, s5)
    else
    if v10 = 27 then
      some (0, s5)
    else
    if v10 = 28 then
      some (0, s5)
    else
    if v10 = 29 then
      some (0, s5)
    else
    if v10 = 30 then
      some (0, s5)
    else
    if v10 = 31 then
      some (0, s5)
    else
    if v10 = 32 then
      some (0, s5)
    else
    if v10 = 33 then
      some (0, s5)
    else
    if v10 = 34 then
      some (0, s5)
    else
    if v10 = 35 then
      some (0, s5)
    else
    if v10 = 36 then
      some (0, s5)
    else
    if v10 = 37 then
      some (0, s5)
    else
    if v10 = 38 then
      some (0, s5)
    else
    if v10 = 39 then
      some (0, s5)
    else
    if v10 = 40 then
      nm (tsI s5 137 ((tI s5 137) + 1)) fun s421 =>
      nm (tI s421 137) fun v422 =>
      if inb x1 9000 then
      if inb v422 400 then
      nm (tsA s421 135 (ix v422) (tA s421 26 (ix x1))) fun s425 =>
      if inb v422 400 then
      nm (tsA s425 136 (ix v422) x3) fun s427 =>
      if inb x1 9000 then
      if inb (tA s427 25 (ix x1)) 12 then
      ob (cf_build (tA s427 43 (ix (tA s427 25 (ix x1)))) x2 v422 (x4 + 1) s427) fun r431 s430 =>
      nm (tsI s430 137 ((tI s430 137) - 1)) fun s434 =>
      some (r431, s434)
      else none
      else none
      else none
      else none
      else none
    else
    if v10 = 41 then
      ob (L_build_248 cf_build FU x1 0 0 s5) fun q445 s446 =>
      ob (F_make 0 (q445 <<< (16 &&& 31)) 0 0 s446) fun r449 s448 =>
      some (r449, s448)
    else
    if v10 = 42 then
      if inb x3 400 then
      nm (tA s5 135 (ix x3)) fun v455 =>
      ob (L_build_695 cf_build FU x1 x2 x3 x4 v455 0 s5) fun q461 s462 =>
      if inb q461 9000 then
      if inb x3 400 then
      ob (cf_build (tA s462 25 (ix q461)) x2 (tA s462 136 (ix x3)) (x4 + 1) s462) fun r467 s466 =>
      some (r467, s466)
      else none
      else none
      else none
    else
    some (0, s5)
    else none
  else
    some (0, s5)
def B_build (cf_build : Int32 → Int32 → Int32 → Int32 → TS → Option (Int32 × TS)) (x1 : Int32) (x2 : Int32) (x3 : Int32) (x4 : Int32) (σ : TS) : Option (Int32 × TS) :=
  ob (F_isBad σ) fun r2 s1 =>
  if r2 = 0 then
    if x4 ≤ 100 then
      J_build_21 cf_build x1 x2 x3 x4 s1
    else
      ob (F_bad 24 0 s1) fun r473 s472 =>
      J_build_21 cf_build x1 x2 x3 x4 s472
  else
    J_build_21 cf_build x1 x2 x3 x4 s1
def G_build : Nat → (Int32 → Int32 → Int32 → Int32 → TS → Option (Int32 × TS))
  | 0 => (fun _ _ _ _ _ => none)
  | d + 1 => (B_build (G_build d))
def F_build : Int32 → Int32 → Int32 → Int32 → TS → Option (Int32 × TS) := (G_build 300)
def F_unitFrom (x0 : Int32) (x1 : Int32) (x2 : Int32) (σ : TS) : Option (Int64 × TS) :=
  some (((((x0 + 500000).toInt64) <<< (((42 : Int32)).toInt64 &&& 63)) ||| (((x1 + 500000).toInt64) <<< (((21 : Int32)).toInt64 &&& 63))) ||| ((x2 + 500000).toInt64), σ)
def F_unitOf (x1 : Int32) (σ : TS) : Option (Int64 × TS) :=
  if inb x1 96 then
  nm (tA σ 95 (ix x1)) fun v2 =>
  if v2 = 0 then
    ob (F_unitFrom 0 0 0 σ) fun r8 s7 =>
    some (r8, s7)
  else
    ob (F_unitFrom ((v2 &&& 31) - 8) (((v2 >>> (5 &&& 31)) &&& 31) - 8) (((v2 >>> (10 &&& 31)) &&& 31) - 8) σ) fun r4 s3 =>
    some (r4, s3)
  else none
def F_part (x0 : Int64) (x2 : Int32) (σ : TS) : Option (Int32 × TS) :=
  some ((((x0 >>> ((42 - (21 * x2)).toInt64 &&& 63)) &&& 2097151).toInt32) - 500000, σ)
