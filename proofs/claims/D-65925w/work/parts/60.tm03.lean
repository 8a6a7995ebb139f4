set_option maxRecDepth 100000
def J_count_53 (x1 : Int32) (σ : TS) : Option (Int32 × TS) :=
  if x1 = 0 then
    some (tI σ 49, σ)
  else
  if x1 = 1 then
    some (tI σ 48, σ)
  else
  if x1 = 2 then
    some (tI σ 19, σ)
  else
  if x1 = 3 then
    some (tI σ 107, σ)
  else
  if x1 = 4 then
    some (tI σ 144, σ)
  else
  if x1 = 5 then
    some (tI σ 154, σ)
  else
  if x1 = 6 then
    some (tI σ 148, σ)
  else
  if x1 = 7 then
    some (tI σ 127, σ)
  else
  if x1 = 8 then
    some (tI σ 82, σ)
  else
  if x1 = 9 then
    some (tI σ 156, σ)
  else
  if x1 = 10 then
    some (tI σ 197, σ)
  else
  if x1 = 11 then
    some (tI σ 143, σ)
  else
  if x1 = 12 then
    some (tI σ 181, σ)
  else
  if x1 = 13 then
    some (tI σ 208, σ)
  else
  if x1 = 14 then
    some (tI σ 198, σ)
  else
  if x1 = 15 then
    some (tI σ 206, σ)
  else
  if x1 = 16 then
    some ((tL σ 203).toInt32, σ)
  else
  if x1 = 17 then
    some (tI σ 237, σ)
  else
  if x1 = 18 then
    some (tI σ 238, σ)
  else
  if x1 = 19 then
    some (tI σ 239, σ)
  else
  some (tI σ 222, σ)
def J_count_37 (x1 : Int32) (σ : TS) : Option (Int32 × TS) :=
  if x1 < 17 then
    J_count_53 x1 σ
  else
    if tI σ 110 = 0 then
      some ((-4), σ)
    else
      J_count_53 x1 σ
def J_count_24 (x1 : Int32) (σ : TS) : Option (Int32 × TS) :=
  if x1 < 10 then
    J_count_37 x1 σ
  else
    if tI σ 109 = 0 then
      some ((-4), σ)
    else
      J_count_37 x1 σ
def F_count (x1 : Int32) (σ : TS) : Option (Int32 × TS) :=
  if x1 < 0 then
    some ((-1), σ)
  else
    if x1 ≤ 20 then
      if x1 < 3 then
        J_count_24 x1 σ
      else
        if tI σ 108 = 0 then
          some ((-4), σ)
        else
          J_count_24 x1 σ
    else
      some ((-1), σ)
def F_numeralNode (x1 : Int32) (σ : TS) : Option (Int32 × TS) :=
  ob (F_make 0 x1 0 0 σ) fun r2 s1 =>
  some (r2, s1)
def F_newUnknown (x1 : Int32) (x2 : Int32) (x3 : Int32) (σ : TS) : Option (Int32 × TS) :=
  if tI σ 197 = 180 then
    ob (F_bad 52 (tI σ 204) σ) fun r27 s26 =>
    some (0, s26)
  else
    nm (tI σ 197) fun v1 =>
    nm (tsI σ 197 ((tI σ 197) + 1)) fun s2 =>
    if inb v1 200 then
    nm (tsA s2 187 (ix v1) x1) fun s4 =>
    if inb v1 200 then
    nm (tsA s4 188 (ix v1) x2) fun s6 =>
    if inb v1 200 then
    nm (tsA s6 189 (ix v1) (-1)) fun s8 =>
    if inb v1 200 then
    nm (tsA s8 190 (ix v1) x3) fun s10 =>
    if inb v1 200 then
    nm (tsA s10 191 (ix v1) (-1)) fun s12 =>
    if x3 < 0 then
      if x2 < 4 then
        some (v1, s12)
      else
        ob (F_bad 52 (tI s12 204) s12) fun r14 s13 =>
        some (v1, s13)
    else
      if inb x3 200 then
      nm (tsA s12 189 (ix x3) v1) fun s19 =>
      if x2 < 4 then
        some (v1, s19)
      else
        ob (F_bad 52 (tI s19 204) s19) fun r21 s20 =>
        some (v1, s20)
      else none
    else none
    else none
    else none
    else none
    else none
def F_unknownNode (x1 : Int32) (σ : TS) : Option (Int32 × TS) :=
  ob (F_make 30 x1 0 0 σ) fun r2 s1 =>
  some (r2, s1)
def J_derived_307 (cf_derived : Int32 → TS → Option (Int32 × TS)) (x3 : Int32) (x4 : Int32) (σ : TS) : Option (Int32 × TS) :=
  ob (F_isBad σ) fun r24 s23 =>
  if r24 = 0 then
    if inb x3 200 then
    ob (F_unknownNode (tA s23 189 (ix x3)) s23) fun r29 s28 =>
    if x4 = 0 then
      some (r29, s28)
    else
      ob (F_make 7 r29 0 0 s28) fun r33 s32 =>
      some (r33, s32)
    else none
  else
    some (0, s23)
def J_derived_276 (cf_derived : Int32 → TS → Option (Int32 × TS)) (x3 : Int32) (y0 : Int32) (σ : TS) : Option (Int32 × TS) :=
  if inb x3 200 then
  if 0 ≤ tA σ 189 (ix x3) then
    J_derived_307 cf_derived x3 y0 σ
  else
    if inb x3 200 then
    if inb x3 200 then
    ob (F_newUnknown (tA σ 187 (ix x3)) ((tA σ 188 (ix x3)) + 1) x3 σ) fun r41 s40 =>
    J_derived_307 cf_derived x3 y0 s40
    else none
    else none
  else none
def J_derived_275 (cf_derived : Int32 → TS → Option (Int32 × TS)) (x3 : Int32) (σ : TS) : Option (Int32 × TS) :=
  J_derived_276 cf_derived x3 0 σ
def J_derived_245 (cf_derived : Int32 → TS → Option (Int32 × TS)) (x1 : Int32) (x2 : Int32) (σ : TS) : Option (Int32 × TS) :=
  ob (F_leafUnknown x1 σ) fun r19 s18 =>
  if x2 = 30 then
    J_derived_275 cf_derived r19 s18
  else
    if inb x1 70000 then
    if inb (tA s18 122 (ix x1)) 96 then
    if 0 ≤ tA s18 178 (ix (tA s18 122 (ix x1))) then
      J_derived_275 cf_derived r19 s18
    else
      J_derived_276 cf_derived r19 1 s18
    else none
    else none
def B_derived (cf_derived : Int32 → TS → Option (Int32 × TS)) (x1 : Int32) (σ : TS) : Option (Int32 × TS) :=
  ob (F_isBad σ) fun r2 s1 =>
  if r2 = 0 then
    if inb x1 70000 then
    nm (tA s1 121 (ix x1)) fun v6 =>
    if v6 = 0 then
      ob (F_numeralNode 0 s1) fun r9 s8 =>
      some (r9, s8)
    else
    if v6 = 1 then
      ob (F_numeralNode 65536 s1) fun r14 s13 =>
      some (r14, s13)
    else
    if v6 = 2 then
      if v6 = 2 then
        if inb x1 70000 then
        if inb (tA s1 122 (ix x1)) 96 then
        if tA s1 94 (ix (tA s1 122 (ix x1))) = 0 then
          J_derived_245 cf_derived x1 v6 s1
        else
          ob (F_numeralNode 0 s1) fun r52 s51 =>
          some (r52, s51)
        else none
        else none
      else
        J_derived_245 cf_derived x1 v6 s1
    else
    if v6 = 3 then
      if v6 = 2 then
        if inb x1 70000 then
        if inb (tA s1 122 (ix x1)) 96 then
        if tA s1 94 (ix (tA s1 122 (ix x1))) = 0 then
          J_derived_245 cf_derived x1 v6 s1
        else
          ob (F_numeralNode 0 s1) fun r61 s60 =>
          some (r61, s60)
        else none
        else none
      else
        J_derived_245 cf_derived x1 v6 s1
    else
    if v6 = 4 then
      if inb x1 70000 then
      if inb (tA s1 122 (ix x1)) 96 then
      if tA s1 94 (ix (tA s1 122 (ix x1))) = 0 then
        if inb x1 70000 then
        if inb (tA s1 122 (ix x1)) 96 then
        if 0 ≤ tA s1 178 (ix (tA s1 122 (ix x1))) then
          ob (F_numeralNode 0 s1) fun r76 s75 =>
          some (r76, s75)
        else
          ob (F_numeralNode 0 s1) fun r80 s79 =>
          ob (F_make 7 r80 0 0 s79) fun r84 s83 =>
          some (r84, s83)
        else none
        else none
      else
        ob (F_numeralNode 0 s1) fun r70 s69 =>
        some (r70, s69)
      else none
      else none
    else
    if v6 = 5 then
      if inb x1 70000 then
      ob (cf_derived (tA s1 122 (ix x1)) s1) fun r92 s91 =>
      if inb x1 70000 then
      ob (cf_derived (tA s91 123 (ix x1)) s91) fun r97 s96 =>
      ob (F_make v6 r92 r97 0 s96) fun r101 s100 =>
      some (r101, s100)
      else none
      else none
    else
    if v6 = 6 then
      if inb x1 70000 then
      ob (cf_derived (tA s1 122 (ix x1)) s1) fun r107 s106 =>
      if inb x1 70000 then
      ob (cf_derived (tA s106 123 (ix x1)) s106) fun r112 s111 =>
      ob (F_make v6 r107 r112 0 s111) fun r116 s115 =>
      some (r116, s115)
      else none
      else none
    else
    if v6 = 7 then
      if inb x1 70000 then
      ob (cf_derived (tA s1 122 (ix x1)) s1) fun r122 s121 =>
      ob (F_make 7 r122 0 0 s121) fun r126 s125 =>
      some (r126, s125)
      else none
    else
    if v6 = 8 then
      if inb x1 70000 then
      ob (cf_derived (tA s1 122 (ix x1)) s1) fun r132 s131 =>
      if inb x1 70000 then
      ob (cf_derived (tA s131 123 (ix x1)) s131) fun r137 s136 =>
      if inb x1 70000 then
      ob (F_make 8 r132 (tA s136 123 (ix x1)) 0 s136) fun r142 s141 =>
      if inb x1 70000 then
      ob (F_make 8 (tA s141 122 (ix x1)) r137 0 s141) fun r147 s146 =>
      ob (F_make 5 r142 r147 0 s146) fun r151 s150 =>
      some (r151, s150)
      else none
      else none
      else none
      else none
    else
    if v6 = 9 then
      if inb x1 70000 then
      ob (cf_derived (tA s1 122 (ix x1)) s1) fun r157 s156 =>
      if inb x1 70000 then
      ob (cf_derived (tA s156 123 (ix x1)) s156) fun r162 s161 =>
      if inb x1 70000 then
      if inb x1 70000 then
      ob (F_make 9 (tA s161 122 (ix x1)) (tA s161 123 (ix x1)) 0 s161) fun r168 s167 =>
      ob (F_make 8 r168 r162 0 s167) fun r172 s171 =>
      ob (F_make 6 r157 r172 0 s171) fun r176 s175 =>
      if inb x1 70000 then
      ob (F_make 9 r176 (tA s175 123 (ix x1)) 0 s175) fun r181 s180 =>
      some (r181, s180)
      else none
      else none
      else none
      else none
      else none
    else
    if v6 = 10 then
      if inb x1 70000 then
      ob (cf_derived (tA s1 122 (ix x1)) s1) fun r187 s186 =>
      if inb x1 70000 then
      ob (F_make 12 (tA s186 122 (ix x1)) 0 0 s186) fun r192 s191 =>
      ob (F_make 8 r192 r187 0 s191) fun r196 s195 =>
      some (r196, s195)
      else none
      else none
    else
    if v6 = 11 then
      if inb x1 70000 then
      ob (cf_derived (tA s1 122 (ix x1)) s1) fun r202 s201 =>
      if inb x1 70000 then
      ob (F_make 11 (tA s201 122 (ix x1)) 0 0 s201) fun r207 s206 =>
      ob (F_numeralNode 131072 s206) fun r211 s210 =>
      ob (F_make 8 r211 r207 0 s210) fun r215 s214 =>
      ob (F_make 9 r202 r215 0 s214) fun r219 s218 =>
      some (r219, s218)
      else none
      else none
    else
    if v6 = 12 then
      ob (F_numeralNode 0 s1) fun r224 s223 =>
      some (r224, s223)
    else
    if v6 = 13 then
      ob (F_numeralNode 0 s1) fun r229 s228 =>
      some (r229, s228)
    else
    if v6 = 14 then
      if inb x1 70000 then
      ob (cf_derived (tA s1 122 (ix x1)) s1) fun r235 s234 =>
      if inb x1 70000 then
      ob (cf_derived (tA s234 123 (ix x1)) s234) fun r240 s239 =>
      if v6 = 14 then
        if inb x1 70000 then
        if inb x1 70000 then
        ob (F_make 25 15421 (tA s239 122 (ix x1)) (tA s239 123 (ix x1)) s239) fun r256 s255 =>
        ob (F_make 16 r256 r235 r240 s255) fun r260 s259 =>
        some (r260, s259)
        else none
        else none
      else
        if inb x1 70000 then
        if inb x1 70000 then
        ob (F_make 25 15933 (tA s239 122 (ix x1)) (tA s239 123 (ix x1)) s239) fun r246 s245 =>
        ob (F_make 16 r246 r235 r240 s245) fun r250 s249 =>
        some (r250, s249)
        else none
        else none
      else none
      else none
    else
    if v6 = 15 then
      if inb x1 70000 then
      ob (cf_derived (tA s1 122 (ix x1)) s1) fun r267 s266 =>
      if inb x1 70000 then
      ob (cf_derived (tA s266 123 (ix x1)) s266) fun r272 s271 =>
      if v6 = 14 then
        if inb x1 70000 then
        if inb x1 70000 then
        ob (F_make 25 15421 (tA s271 122 (ix x1)) (tA s271 123 (ix x1)) s271) fun r288 s287 =>
        ob (F_make 16 r288 r267 r272 s287) fun r292 s291 =>
        some (r292, s291)
        else none
        else none
      else
        if inb x1 70000 then
        if inb x1 70000 then
        ob (F_make 25 15933 (tA s271 122 (ix x1)) (tA s271 123 (ix x1)) s271) fun r278 s277 =>
        ob (F_make 16 r278 r267 r272 s277) fun r282 s281 =>
        some (r282, s281)
        else none
        else none
      else none
      else none
    else
    if v6 = 16 then
      if inb x1 70000 then
      ob (cf_derived (tA s1 123 (ix x1)) s1) fun r299 s298 =>
      if inb x1 70000 then
      if inb x1 70000 then
      ob (cf_derived (tA s298 124 (ix x1)) s298) fun r305 s304 =>
      ob (F_make 16 (tA s298 122 (ix x1)) r299 r305 s304) fun r309 s308 =>
      some (r309, s308)
      else none
      else none
      else none
    else
    if v6 = 17 then
      if inb x1 70000 then
      ob (cf_derived (tA s1 123 (ix x1)) s1) fun r315 s314 =>
      if inb x1 70000 then
      if inb x1 70000 then
      ob (cf_derived (tA s314 124 (ix x1)) s314) fun r321 s320 =>
      ob (F_make 16 (tA s314 122 (ix x1)) r315 r321 s320) fun r325 s324 =>
      some (r325, s324)
      else none
      else none
      else none
    else
    if v6 = 18 then
      if inb x1 70000 then
      ob (cf_derived (tA s1 123 (ix x1)) s1) fun r331 s330 =>
      if inb x1 70000 then
      if inb x1 70000 then
      ob (cf_derived (tA s330 124 (ix x1)) s330) fun r337 s336 =>
      ob (F_make 16 (tA s330 122 (ix x1)) r331 r337 s336) fun r341 s340 =>
      some (r341, s340)
      else none
      else none
      else none
    else
    if v6 = 19 then
      if inb x1 70000 then
      ob (cf_derived (tA s1 123 (ix x1)) s1) fun r347 s346 =>
      if inb x1 70000 then
      if inb x1 70000 then
      ob (cf_derived (tA s346 124 (ix x1)) s346) fun r353 s352 =>
      ob (F_make 16 (tA s346 122 (ix x1)) r347 r353 s352) fun r357 s356 =>
      some (r357, s356)
      else none
      else none
      else none
    else
    if v6 = 20 then
      if inb x1 70000 then
      ob (cf_derived (tA s1 123 (ix x1)) s1) fun r363 s362 =>
      if inb x1 70000 then
      if inb x1 70000 then
      ob (cf_derived (tA s362 124 (ix x1)) s362) fun r369 s368 =>
      ob (F_make 16 (tA s362 122 (ix x1)) r363 r369 s368) fun r373 s372 =>
      some (r373, s372)
      else none
      else none
      else none
    else
    if v6 = 21 then
      if inb x1 70000 then
      ob (cf_derived (tA s1 123 (ix x1)) s1) fun r379 s378 =>
      if inb x1 70000 then
      if inb x1 70000 then
      ob (cf_derived (tA s378 124 (ix x1)) s378) fun r385 s384 =>
      ob (F_make 16 (tA s378 122 (ix x1)) r379 r385 s384) fun r389 s388 =>
      some (r389, s388)
      else none
      else none
      else none
    else
    if v6 = 22 then
      if inb x1 70000 then
      ob (cf_derived (tA s1 123 (ix x1)) s1) fun r395 s394 =>
      if inb x1 70000 then
      if inb x1 70000 then
      ob (cf_derived (tA s394 124 (ix x1)) s394) fun r401 s400 =>
      ob (F_make 16 (tA s394 122 (ix x1)) r395 r401 s400) fun r405 s404 =>
      some (r405, s404)
      else none
      else none
      else none
    else
    if v6 = 23 then
      if inb x1 70000 then
      ob (cf_derived (tA s1 123 (ix x1)) s1) fun r411 s410 =>
      if inb x1 70000 then
      if inb x1 70000 then
      ob (cf_derived (tA s410 124 (ix x1)) s410) fun r417 s416 =>
      ob (F_make 16 (tA s410 122 (ix x1)) r411 r417 s416) fun r421 s420 =>
      some (r421, s420)
      else none
      else none
      else none
    else
    if v6 = 24 then
      if inb x1 70000 then
      ob (cf_derived (tA s1 123 (ix x1)) s1) fun r427 s426 =>
      if inb x1 70000 then
      if inb x1 70000 then
      ob (cf_derived (tA s426 124 (ix x1)) s426) fun r433 s432 =>
      ob (F_make 16 (tA s426 122 (ix x1)) r427 r433 s432) fun r437 s436 =>
      some (r437, s436)
      else none
      else none
      else none
    else
    if v6 = 25 then
      if inb x1 70000 then
      ob (cf_derived (tA s1 123 (ix x1)) s1) fun r443 s442 =>
      if inb x1 70000 then
      if inb x1 70000 then
      ob (cf_derived (tA s442 124 (ix x1)) s442) fun r449 s448 =>
      ob (F_make 16 (tA s442 122 (ix x1)) r443 r449 s448) fun r453 s452 =>
      some (r453, s452)
      else none
      else none
      else none
    else
    if v6 = 26 then
      if inb x1 70000 then
      ob (cf_derived (tA s1 123 (ix x1)) s1) fun r459 s458 =>
      if inb x1 70000 then
      if inb x1 70000 then
      ob (cf_derived (tA s458 124 (ix x1)) s458) fun r465 s464 =>
      ob (F_make 16 (tA s458 122 (ix x1)) r459 r465 s464) fun r469 s468 =>
      some (r469, s468)
      else none
      else none
      else none
    else
    if v6 = 27 then
      if inb x1 70000 then
      ob (cf_derived (tA s1 123 (ix x1)) s1) fun r475 s474 =>
      if inb x1 70000 then
      if inb x1 70000 then
      ob (cf_derived (tA s474 124 (ix x1)) s474) fun r481 s480 =>
      ob (F_make 16 (tA s474 122 (ix x1)) r475 r481 s480) fun r485 s484 =>
      some (r485, s484)
      else none
      else none
      else none
    else
    if v6 = 28 then
      if inb x1 70000 then
      ob (cf_derived (tA s1 123 (ix x1)) s1) fun r491 s490 =>
      if inb x1 70000 then
      if inb x1 70000 then
      ob (cf_derived (tA s490 124 (ix x1)) s490) fun r497 s496 =>
      ob (F_make 16 (tA s490 122 (ix x1)) r491 r497 s496) fun r501 s500 =>
      some (r501, s500)
      else none
      else none
      else none
    else
    if v6 = 29 then
      if inb x1 70000 then
      ob (cf_derived (tA s1 123 (ix x1)) s1) fun r507 s506 =>
      if inb x1 70000 then
      if inb x1 70000 then
      ob (cf_derived (tA s506 124 (ix x1)) s506) fun r513 s512 =>
      ob (F_make 16 (tA s506 122 (ix x1)) r507 r513 s512) fun r517 s516 =>
      some (r517, s516)
      else none
      else none
      else none
    else
    if v6 = 30 then
      if v6 = 2 then
        if inb x1 70000 then
        if inb (tA s1 122 (ix x1)) 96 then
        if tA s1 94 (ix (tA s1 122 (ix x1))) = 0 then
          J_derived_245 cf_derived x1 v6 s1
        else
          ob (F_numeralNode 0 s1) fun r524 s523 =>
          some (r524, s523)
        else none
        else none
      else
        J_derived_245 cf_derived x1 v6 s1
    else
    if inb x1 70000 then
    ob (cf_derived (tA s1 123 (ix x1)) s1) fun r531 s530 =>
    if inb x1 70000 then
    if inb x1 70000 then
    ob (cf_derived (tA s530 124 (ix x1)) s530) fun r537 s536 =>
    ob (F_make 16 (tA s530 122 (ix x1)) r531 r537 s536) fun r541 s540 =>
    some (r541, s540)
    else none
    else none
    else none
    else none
  else
    some (0, s1)
def G_derived : Nat → (Int32 → TS → Option (Int32 × TS))
  | 0 => (fun _ _ => none)
  | d + 1 => (B_derived (G_derived d))
def F_derived : Int32 → TS → Option (Int32 × TS) := (G_derived 300)
def B_printedSize (cf_printedSize : Int32 → TS → Option (Int64 × TS)) (x1 : Int32) (σ : TS) : Option (Int64 × TS) :=
  if inb x1 70000 then
  nm (tA σ 121 (ix x1)) fun v2 =>
  if v2 = 0 then
    some (1, σ)
  else
  if v2 = 1 then
    some (1, σ)
  else
  if v2 = 2 then
    if inb x1 70000 then
    if inb (tA σ 122 (ix x1)) 96 then
    if tA σ 94 (ix (tA σ 122 (ix x1))) = 0 then
      if inb x1 70000 then
      if inb (tA σ 122 (ix x1)) 96 then
      if 0 ≤ tA σ 178 (ix (tA σ 122 (ix x1))) then
        some (1, σ)
      else
        some (2, σ)
      else none
      else none
    else
      some (1, σ)
    else none
    else none
  else
  if v2 = 3 then
    if inb x1 70000 then
    if inb (tA σ 122 (ix x1)) 96 then
    if tA σ 94 (ix (tA σ 122 (ix x1))) = 0 then
      if inb x1 70000 then
      if inb (tA σ 122 (ix x1)) 96 then
      if 0 ≤ tA σ 178 (ix (tA σ 122 (ix x1))) then
        some (1, σ)
      else
        some (2, σ)
      else none
      else none
    else
      some (1, σ)
    else none
    else none
  else
  if v2 = 4 then
    if inb x1 70000 then
    if inb (tA σ 122 (ix x1)) 96 then
    if tA σ 94 (ix (tA σ 122 (ix x1))) = 0 then
      if inb x1 70000 then
      if inb (tA σ 122 (ix x1)) 96 then
      if 0 ≤ tA σ 178 (ix (tA σ 122 (ix x1))) then
        some (1, σ)
      else
        some (2, σ)
      else none
      else none
    else
      some (1, σ)
    else none
    else none
  else
  if v2 = 5 then
    if inb x1 70000 then
    ob (cf_printedSize (tA σ 122 (ix x1)) σ) fun r29 s28 =>
    if inb x1 70000 then
    ob (cf_printedSize (tA s28 123 (ix x1)) s28) fun r34 s33 =>
    some ((1 + r29) + r34, s33)
    else none
    else none
  else
  if v2 = 6 then
    if inb x1 70000 then
    ob (cf_printedSize (tA σ 122 (ix x1)) σ) fun r40 s39 =>
    if inb x1 70000 then
    ob (cf_printedSize (tA s39 123 (ix x1)) s39) fun r45 s44 =>
    some ((1 + r40) + r45, s44)
    else none
    else none
  else
  if v2 = 7 then
    if inb x1 70000 then
    ob (cf_printedSize (tA σ 122 (ix x1)) σ) fun r51 s50 =>
    some (1 + r51, s50)
    else none
  else
  if v2 = 8 then
    if inb x1 70000 then
    ob (cf_printedSize (tA σ 122 (ix x1)) σ) fun r57 s56 =>
    if inb x1 70000 then
    ob (cf_printedSize (tA s56 123 (ix x1)) s56) fun r62 s61 =>
    some ((1 + r57) + r62, s61)
    else none
    else none
  else
  if v2 = 9 then
    if inb x1 70000 then
    ob (cf_printedSize (tA σ 122 (ix x1)) σ) fun r68 s67 =>
    if inb x1 70000 then
    ob (cf_printedSize (tA s67 123 (ix x1)) s67) fun r73 s72 =>
    some ((1 + r68) + r73, s72)
    else none
    else none
  else
  if v2 = 10 then
    if inb x1 70000 then
    ob (cf_printedSize (tA σ 122 (ix x1)) σ) fun r79 s78 =>
    some (1 + r79, s78)
    else none
  else
  if v2 = 11 then
    if inb x1 70000 then
    ob (cf_printedSize (tA σ 122 (ix x1)) σ) fun r85 s84 =>
    some (1 + r85, s84)
    else none
  else
  if v2 = 12 then
    if inb x1 70000 then
    ob (cf_printedSize (tA σ 122 (ix x1)) σ) fun r91 s90 =>
    some (1 + r91, s90)
    else none
  else
  if v2 = 13 then
    if inb x1 70000 then
    ob (cf_printedSize (tA σ 122 (ix x1)) σ) fun r97 s96 =>
    some (1 + r97, s96)
    else none
  else
  if v2 = 14 then
    if inb x1 70000 then
    ob (cf_printedSize (tA σ 122 (ix x1)) σ) fun r103 s102 =>
    if inb x1 70000 then
    ob (cf_printedSize (tA s102 123 (ix x1)) s102) fun r108 s107 =>
    some ((1 + r103) + r108, s107)
    else none
    else none
  else
  if v2 = 15 then
    if inb x1 70000 then
    ob (cf_printedSize (tA σ 122 (ix x1)) σ) fun r114 s113 =>
    if inb x1 70000 then
    ob (cf_printedSize (tA s113 123 (ix x1)) s113) fun r119 s118 =>
    some ((1 + r114) + r119, s118)
    else none
    else none
  else
  if v2 = 16 then
    if inb x1 70000 then
    ob (cf_printedSize (tA σ 122 (ix x1)) σ) fun r125 s124 =>
    if inb x1 70000 then
    ob (cf_printedSize (tA s124 123 (ix x1)) s124) fun r130 s129 =>
    if inb x1 70000 then
    ob (cf_printedSize (tA s129 124 (ix x1)) s129) fun r135 s134 =>
    some (((1 + r125) + r130) + r135, s134)
    else none
    else none
    else none
  else
  if v2 = 17 then
    if inb x1 70000 then
    ob (cf_printedSize (tA σ 122 (ix x1)) σ) fun r141 s140 =>
    if inb x1 70000 then
    ob (cf_printedSize (tA s140 123 (ix x1)) s140) fun r146 s145 =>
    some ((1 + r141) + r146, s145)
    else none
    else none
  else
  if v2 = 18 then
    if inb x1 70000 then
    ob (cf_printedSize (tA σ 122 (ix x1)) σ) fun r152 s151 =>
    if inb x1 70000 then
    ob (cf_printedSize (tA s151 123 (ix x1)) s151) fun r157 s156 =>
    some ((1 + r152) + r157, s156)
    else none
    else none
  else
  if v2 = 19 then
    if inb x1 70000 then
    ob (cf_printedSize (tA σ 122 (ix x1)) σ) fun r163 s162 =>
    if inb x1 70000 then
    ob (cf_printedSize (tA s162 123 (ix x1)) s162) fun r168 s167 =>
    some ((1 + r163) + r168, s167)
    else none
    else none
  else
  if v2 = 20 then
    if inb x1 70000 then
    ob (cf_printedSize (tA σ 123 (ix x1)) σ) fun r174 s173 =>
    if inb x1 70000 then
    ob (cf_printedSize (tA s173 124 (ix x1)) s173) fun r179 s178 =>
    some ((1 + r174) + r179, s178)
    else none
    else none
  else
  if v2 = 21 then
    if inb x1 70000 then
    ob (cf_printedSize (tA σ 122 (ix x1)) σ) fun r185 s184 =>
    if inb x1 70000 then
    ob (cf_printedSize (tA s184 123 (ix x1)) s184) fun r190 s189 =>
    some ((1 + r185) + r190, s189)
    else none
    else none
  else
  if v2 = 22 then
    if inb x1 70000 then
    ob (cf_printedSize (tA σ 122 (ix x1)) σ) fun r196 s195 =>
    if inb x1 70000 then
    ob (cf_printedSize (tA s195 123 (ix x1)) s195) fun r201 s200 =>
    some ((1 + r196) + r201, s200)
    else none
    else none
  else
  if v2 = 23 then
    if inb x1 70000 then
    ob (cf_printedSize (tA σ 122 (ix x1)) σ) fun r207 s206 =>
    some (1 + r207, s206)
    else none
  else
  if v2 = 24 then
    some (1, σ)
  else
  if v2 = 25 then
    if inb x1 70000 then
    ob (cf_printedSize (tA σ 123 (ix x1)) σ) fun r214 s213 =>
    if inb x1 70000 then
    ob (cf_printedSize (tA s213 124 (ix x1)) s213) fun r219 s218 =>
    some ((1 + r214) + r219, s218)
    else none
    else none
  else
  if v2 = 26 then
    if inb x1 70000 then
    ob (cf_printedSize (tA σ 122 (ix x1)) σ) fun r225 s224 =>
    if inb x1 70000 then
    ob (cf_printedSize (tA s224 123 (ix x1)) s224) fun r230 s229 =>
    some ((1 + r225) + r230, s229)
    else none
    else none
  else
  if v2 = 27 then
    if inb x1 70000 then
    ob (cf_printedSize (tA σ 122 (ix x1)) σ) fun r236 s235 =>
    if inb x1 70000 then
    ob (cf_printedSize (tA s235 123 (ix x1)) s235) fun r241 s240 =>
    some ((1 + r236) + r241, s240)
    else none
    else none
  else
  if v2 = 28 then
    if inb x1 70000 then
    ob (cf_printedSize (tA σ 122 (ix x1)) σ) fun r247 s246 =>
    if inb x1 70000 then
    ob (cf_printedSize (tA s246 123 (ix x1)) s246) fun r252 s251 =>
    some ((1 + r247) + r252, s251)
    else none
    else none
  else
  if v2 = 29 then
    if inb x1 70000 then
    ob (cf_printedSize (tA σ 122 (ix x1)) σ) fun r258 s257 =>
    if inb x1 70000 then
    ob (cf_printedSize (tA s257 123 (ix x1)) s257) fun r263 s262 =>
    some ((1 + r258) + r263, s262)
    else none
    else none
  else
  if v2 = 30 then
    some (1, σ)
  else
  if inb x1 70000 then
  ob (cf_printedSize (tA σ 122 (ix x1)) σ) fun r269 s268 =>
  if inb x1 70000 then
  ob (cf_printedSize (tA s268 123 (ix x1)) s268) fun r274 s273 =>
  some ((1 + r269) + r274, s273)
  else none
  else none
  else none
def G_printedSize : Nat → (Int32 → TS → Option (Int64 × TS))
  | 0 => (fun _ _ => none)
  | d + 1 => (B_printedSize (G_printedSize d))
def F_printedSize : Int32 → TS → Option (Int64 × TS) := (G_printedSize 800)
def B_printedHeight (cf_printedHeight : Int32 → TS → Option (Int32 × TS)) (x1 : Int32) (σ : TS) : Option (Int32 × TS) :=
  if inb x1 70000 then
  nm (tA σ 121 (ix x1)) fun v2 =>
  if v2 = 0 then
    some (1, σ)
  else
  if v2 = 1 then
    some (1, σ)
  else
  if v2 = 2 then
    if inb x1 70000 then
    if inb (tA σ 122 (ix x1)) 96 then
    if tA σ 94 (ix (tA σ 122 (ix x1))) = 0 then
      if inb x1 70000 then
      if inb (tA σ 122 (ix x1)) 96 then
      if 0 ≤ tA σ 178 (ix (tA σ 122 (ix x1))) then
        some (1, σ)
      else
        some (2, σ)
      else none
      else none
    else
      some (1, σ)
    else none
    else none
  else
  if v2 = 3 then
    if inb x1 70000 then
    if inb (tA σ 122 (ix x1)) 96 then
    if tA σ 94 (ix (tA σ 122 (ix x1))) = 0 then
      if inb x1 70000 then
      if inb (tA σ 122 (ix x1)) 96 then
      if 0 ≤ tA σ 178 (ix (tA σ 122 (ix x1))) then
        some (1, σ)
      else
        some (2, σ)
      else none
      else none
    else
      some (1, σ)
    else none
    else none
  else
  if v2 = 4 then
    if inb x1 70000 then
    if inb (tA σ 122 (ix x1)) 96 then
    if tA σ 94 (ix (tA σ 122 (ix x1))) = 0 then
      if inb x1 70000 then
      if inb (tA σ 122 (ix x1)) 96 then
      if 0 ≤ tA σ 178 (ix (tA σ 122 (ix x1))) then
        some (1, σ)
      else
        some (2, σ)
      else none
      else none
    else
      some (1, σ)
    else none
    else none
  else
  if v2 = 5 then
    if inb x1 70000 then
    ob (cf_printedHeight (tA σ 122 (ix x1)) σ) fun r29 s28 =>
    if inb x1 70000 then
    ob (cf_printedHeight (tA s28 123 (ix x1)) s28) fun r34 s33 =>
    some (1 + (mmax r29 r34), s33)
    else none
    else none
  else
  if v2 = 6 then
    if inb x1 70000 then
    ob (cf_printedHeight (tA σ 122 (ix x1)) σ) fun r40 s39 =>
    if inb x1 70000 then
    ob (cf_printedHeight (tA s39 123 (ix x1)) s39) fun r45 s44 =>
    some (1 + (mmax r40 r45), s44)
    else none
    else none
  else
  if v2 = 7 then
    if inb x1 70000 then
    ob (cf_printedHeight (tA σ 122 (ix x1)) σ) fun r51 s50 =>
    some (1 + r51, s50)
    else none
  else
  if v2 = 8 then
    if inb x1 70000 then
    ob (cf_printedHeight (tA σ 122 (ix x1)) σ) fun r57 s56 =>
    if inb x1 70000 then
    ob (cf_printedHeight (tA s56 123 (ix x1)) s56) fun r62 s61 =>
    some (1 + (mmax r57 r62), s61)
    else none
    else none
  else
  if v2 = 9 then
    if inb x1 70000 then
    ob (cf_printedHeight (tA σ 122 (ix x1)) σ) fun r68 s67 =>
    if inb x1 70000 then
    ob (cf_printedHeight (tA s67 123 (ix x1)) s67) fun r73 s72 =>
    some (1 + (mmax r68 r73), s72)
    else none
    else none
  else
  if v2 = 10 then
    if inb x1 70000 then
    ob (cf_printedHeight (tA σ 122 (ix x1)) σ) fun r79 s78 =>
    some (1 + r79, s78)
    else none
  else
  if v2 = 11 then
    if inb x1 70000 then
    ob (cf_printedHeight (tA σ 122 (ix x1)) σ) fun r85 s84 =>
    some (1 + r85, s84)
    else none
  else
  if v2 = 12 then
    if inb x1 70000 then
    ob (cf_printedHeight (tA σ 122 (ix x1)) σ) fun r91 s90 =>
    some (1 + r91, s90)
    else none
  else
  if v2 = 13 then
    if inb x1 70000 then
    ob (cf_printedHeight (tA σ 122 (ix x1)) σ) fun r97 s96 =>
    some (1 + r97, s96)
    else none
  else
  if v2 = 14 then
    if inb x1 70000 then
    ob (cf_printedHeight (tA σ 122 (ix x1)) σ) fun r103 s102 =>
    if inb x1 70000 then
    ob (cf_printedHeight (tA s102 123 (ix x1)) s102) fun r108 s107 =>
    some (1 + (mmax r103 r108), s107)
    else none
    else none
  else
  if v2 = 15 then
    if inb x1 70000 then
    ob (cf_printedHeight (tA σ 122 (ix x1)) σ) fun r114 s113 =>
    if inb x1 70000 then
    ob (cf_printedHeight (tA s113 123 (ix x1)) s113) fun r119 s118 =>
    some (1 + (mmax r114 r119), s118)
    else none
    else none
  else
  if v2 = 16 then
    if inb x1 70000 then
    ob (cf_printedHeight (tA σ 122 (ix x1)) σ) fun r125 s124 =>
    if inb x1 70000 then
    ob (cf_printedHeight (tA s124 123 (ix x1)) s124) fun r130 s129 =>
    if inb x1 70000 then
    ob (cf_printedHeight (tA s129 124 (ix x1)) s129) fun r135 s134 =>
    some (1 + (mmax r125 (mmax r130 r135)), s134)
    else none
    else none
    else none
  else
  if v2 = 17 then
    if inb x1 70000 then
    ob (cf_printedHeight (tA σ 122 (ix x1)) σ) fun r141 s140 =>
    if inb x1 70000 then
    ob (cf_printedHeight (tA s140 123 (ix x1)) s140) fun r146 s145 =>
    some (1 + (mmax r141 r146), s145)
    else none
    else none
  else
  if v2 = 18 then
    if inb x1 70000 then
    ob (cf_printedHeight (tA σ 122 (ix x1)) σ) fun r152 s151 =>
    if inb x1 70000 then
    ob (cf_printedHeight (tA s151 123 (ix x1)) s151) fun r157 s156 =>
    some (1 + (mmax r152 r157), s156)
    else none
    else none
  else
  if v2 = 19 then
    if inb x1 70000 then
    ob (cf_printedHeight (tA σ 122 (ix x1)) σ) fun r163 s162 =>
    if inb x1 70000 then
    ob (cf_printedHeight (tA s162 123 (ix x1)) s162) fun r168 s167 =>
    some (1 + (mmax r163 r168), s167)
    else none
    else none
  else
  if v2 = 20 then
    if inb x1 70000 then
    ob (cf_printedHeight (tA σ 123 (ix x1)) σ) fun r174 s173 =>
    if inb x1 70000 then
    ob (cf_printedHeight (tA s173 124 (ix x1)) s173) fun r179 s178 =>
    some (1 + (mmax r174 r179), s178)
    else none
    else none
  else
  if v2 = 21 then
    if inb x1 70000 then
    ob (cf_printedHeight (tA σ 122 (ix x1)) σ) fun r185 s184 =>
    if inb x1 70000 then
    ob (cf_printedHeight (tA s184 123 (ix x1)) s184) fun r190 s189 =>
    some (1 + (mmax r185 r190), s189)
    else none
    else none
  else
  if v2 = 22 then
    if inb x1 70000 then
    ob (cf_printedHeight (tA σ 122 (ix x1)) σ) fun r196 s195 =>
    if inb x1 70000 then
    ob (cf_printedHeight (tA s195 123 (ix x1)) s195) fun r201 s200 =>
    some (1 + (mmax r196 r201), s200)
    else none
    else none
  else
  if v2 = 23 then
    if inb x1 70000 then
    ob (cf_printedHeight (tA σ 122 (ix x1)) σ) fun r207 s206 =>
    some (1 + r207, s206)
    else none
  else
  if v2 = 24 then
    some (1, σ)
  else
  if v2 = 25 then
    if inb x1 70000 then
    ob (cf_printedHeight (tA σ 123 (ix x1)) σ) fun r214 s213 =>
    if inb x1 70000 then
    ob (cf_printedHeight (tA s213 124 (ix x1)) s213) fun r219 s218 =>
    some (1 + (mmax r214 r219), s218)
    else none
    else none
  else
  if v2 = 26 then
    if inb x1 70000 then
    ob (cf_printedHeight (tA σ 122 (ix x1)) σ) fun r225 s224 =>
    if inb x1 70000 then
    ob (cf_printedHeight (tA s224 123 (ix x1)) s224) fun r230 s229 =>
    some (1 + (mmax r225 r230), s229)
    else none
    else none
  else
  if v2 = 27 then
    if inb x1 70000 then
    ob (cf_printedHeight (tA σ 122 (ix x1)) σ) fun r236 s235 =>
    if inb x1 70000 then
    ob (cf_printedHeight (tA s235 123 (ix x1)) s235) fun r241 s240 =>
    some (1 + (mmax r236 r241), s240)
    else none
    else none
  else
  if v2 = 28 then
    if inb x1 70000 then
    ob (cf_printedHeight (tA σ 122 (ix x1)) σ) fun r247 s246 =>
    if inb x1 70000 then
    ob (cf_printedHeight (tA s246 123 (ix x1)) s246) fun r252 s251 =>
    some (1 + (mmax r247 r252), s251)
    else none
    else none
  else
  if v2 = 29 then
    if inb x1 70000 then
    ob (cf_printedHeight (tA σ 122 (ix x1)) σ) fun r258 s257 =>
    if inb x1 70000 then
    ob (cf_printedHeight (tA s257 123 (ix x1)) s257) fun r263 s262 =>
    some (1 + (mmax r258 r263), s262)
    else none
    else none
  else
  if v2 = 30 then
    some (1, σ)
  else
  if inb x1 70000 then
  ob (cf_printedHeight (tA σ 122 (ix x1)) σ) fun r269 s268 =>
  if inb x1 70000 then
  ob (cf_printedHeight (tA s268 123 (ix x1)) s268) fun r274 s273 =>
  some (1 + (mmax r269 r274), s273)
  else none
  else none
  else none
def G_printedHeight : Nat → (Int32 → TS → Option (Int32 × TS))
  | 0 => (fun _ _ => none)
  | d + 1 => (B_printedHeight (G_printedHeight d))
def F_printedHeight : Int32 → TS → Option (Int32 × TS) := (G_printedHeight 800)
def B_standsIn (cf_standsIn : Int32 → TS → Option (Unit × TS)) (x1 : Int32) (σ : TS) : Option (Unit × TS) :=
  if inb x1 70000 then
  nm (tA σ 121 (ix x1)) fun v2 =>
  if v2 = 0 then
    some ((), σ)
  else
  if v2 = 1 then
    some ((), σ)
  else
  if v2 = 2 then
    if inb x1 70000 then
    if inb (tA σ 122 (ix x1)) 96 then
    if tA σ 94 (ix (tA σ 122 (ix x1))) = 0 then
      if inb x1 70000 then
      if inb (tA σ 122 (ix x1)) 96 then
      if inb (tA σ 177 (ix (tA σ 122 (ix x1)))) 96 then
      if inb (tA σ 179 (ix (tA σ 177 (ix (tA σ 122 (ix x1)))))) 200 then
      nm (tsA σ 201 (ix (tA σ 179 (ix (tA σ 177 (ix (tA σ 122 (ix x1))))))) (nZ 1)) fun s12 =>
      some ((), s12)
      else none
      else none
      else none
      else none
    else
      some ((), σ)
    else none
    else none
  else
  if v2 = 3 then
    if inb x1 70000 then
    if inb (tA σ 122 (ix x1)) 96 then
    if inb (tA σ 177 (ix (tA σ 122 (ix x1)))) 96 then
    if inb (tA σ 179 (ix (tA σ 177 (ix (tA σ 122 (ix x1)))))) 200 then
    if inb (tA σ 189 (ix (tA σ 179 (ix (tA σ 177 (ix (tA σ 122 (ix x1)))))))) 200 then
    nm (tsA σ 201 (ix (tA σ 189 (ix (tA σ 179 (ix (tA σ 177 (ix (tA σ 122 (ix x1))))))))) (nZ 1)) fun s20 =>
    some ((), s20)
    else none
    else none
    else none
    else none
    else none
  else
  if v2 = 4 then
    some ((), σ)
  else
  if v2 = 5 then
    if inb x1 70000 then
    ob (cf_standsIn (tA σ 122 (ix x1)) σ) fun r25 s24 =>
    if inb x1 70000 then
    ob (cf_standsIn (tA s24 123 (ix x1)) s24) fun r30 s29 =>
    some ((), s29)
    else none
    else none
  else
  if v2 = 6 then
    if inb x1 70000 then
    ob (cf_standsIn (tA σ 122 (ix x1)) σ) fun r36 s35 =>
    if inb x1 70000 then
    ob (cf_standsIn (tA s35 123 (ix x1)) s35) fun r41 s40 =>
    some ((), s40)
    else none
    else none
  else
  if v2 = 7 then
    if inb x1 70000 then
    ob (cf_standsIn (tA σ 122 (ix x1)) σ) fun r47 s46 =>
    some ((), s46)
    else none
  else
  if v2 = 8 then
    if inb x1 70000 then
    ob (cf_standsIn (tA σ 122 (ix x1)) σ) fun r53 s52 =>
    if inb x1 70000 then
    ob (cf_standsIn (tA s52 123 (ix x1)) s52) fun r58 s57 =>
    some ((), s57)
    else none
    else none
  else
  if v2 = 9 then
    if inb x1 70000 then
    ob (cf_standsIn (tA σ 122 (ix x1)) σ) fun r64 s63 =>
    if inb x1 70000 then
    ob (cf_standsIn (tA s63 123 (ix x1)) s63) fun r69 s68 =>
    some ((), s68)
    else none
    else none
  else
  if v2 = 10 then
    if inb x1 70000 then
    ob (cf_standsIn (tA σ 122 (ix x1)) σ) fun r75 s74 =>
    some ((), s74)
    else none
  else
  if v2 = 11 then
    if inb x1 70000 then
    ob (cf_standsIn (tA σ 122 (ix x1)) σ) fun r81 s80 =>
    some ((), s80)
    else none
  else
  if v2 = 12 then
    if inb x1 70000 then
    ob (cf_standsIn (tA σ 122 (ix x1)) σ) fun r87 s86 =>
    some ((), s86)
    else none
  else
  if v2 = 13 then
    if inb x1 70000 then
    ob (cf_standsIn (tA σ 122 (ix x1)) σ) fun r93 s92 =>
    some ((), s92)
    else none
  else
  if v2 = 14 then
    if inb x1 70000 then
    ob (cf_standsIn (tA σ 122 (ix x1)) σ) fun r99 s98 =>
    if inb x1 70000 then
    ob (cf_standsIn (tA s98 123 (ix x1)) s98) fun r104 s103 =>
    some ((), s103)
    else none
    else none
  else
  if v2 = 15 then
    if inb x1 70000 then
    ob (cf_standsIn (tA σ 122 (ix x1)) σ) fun r110 s109 =>
    if inb x1 70000 then
    ob (cf_standsIn (tA s109 123 (ix x1)) s109) fun r115 s114 =>
    some ((), s114)
    else none
    else none
  else
  if v2 = 16 then
    if inb x1 70000 then
    ob (cf_standsIn (tA σ 122 (ix x1)) σ) fun r121 s120 =>
    if inb x1 70000 then
    ob (cf_standsIn (tA s120 123 (ix x1)) s120) fun r126 s125 =>
    if inb x1 70000 then
    ob (cf_standsIn (tA s125 124 (ix x1)) s125) fun r131 s130 =>
    some ((), s130)
    else none
    else none
    else none
  else
  if v2 = 17 then
    if inb x1 70000 then
    ob (cf_standsIn (tA σ 122 (ix x1)) σ) fun r137 s136 =>
    if inb x1 70000 then
    ob (cf_standsIn (tA s136 123 (ix x1)) s136) fun r142 s141 =>
    some ((), s141)
    else none
    else none
  else
  if v2 = 18 then
    if inb x1 70000 then
    ob (cf_standsIn (tA σ 122 (ix x1)) σ) fun r148 s147 =>
    if inb x1 70000 then
    ob (cf_standsIn (tA s147 123 (ix x1)) s147) fun r153 s152 =>
    some ((), s152)
    else none
    else none
  else
  if v2 = 19 then
    if inb x1 70000 then
    ob (cf_standsIn (tA σ 122 (ix x1)) σ) fun r159 s158 =>
    if inb x1 70000 then
    ob (cf_standsIn (tA s158 123 (ix x1)) s158) fun r164 s163 =>
    some ((), s163)
    else none
    else none
  else
  if v2 = 20 then
    if inb x1 70000 then
    ob (cf_standsIn (tA σ 123 (ix x1)) σ) fun r170 s169 =>
    if inb x1 70000 then
    ob (cf_standsIn (tA s169 124 (ix x1)) s169) fun r175 s174 =>
    some ((), s174)
    else none
    else none
  else
  if v2 = 21 then
    if inb x1 70000 then
    ob (cf_standsIn (tA σ 122 (ix x1)) σ) fun r181 s180 =>
    if inb x1 70000 then
    ob (cf_standsIn (tA s180 123 (ix x1)) s180) fun r186 s185 =>
    some ((), s185)
    else none
    else none
  else
  if v2 = 22 then
    if inb x1 70000 then
    ob (cf_standsIn (tA σ 122 (ix x1)) σ) fun r192 s191 =>
    if inb x1 70000 then
    ob (cf_standsIn (tA s191 123 (ix x1)) s191) fun r197 s196 =>
    some ((), s196)
    else none
    else none
  else
  if v2 = 23 then
    if inb x1 70000 then
    ob (cf_standsIn (tA σ 122 (ix x1)) σ) fun r203 s202 =>
    some ((), s202)
    else none
  else
  if v2 = 24 then
    some ((), σ)
  else
  if v2 = 25 then
    if inb x1 70000 then
    ob (cf_standsIn (tA σ 123 (ix x1)) σ) fun r210 s209 =>
    if inb x1 70000 then
    ob (cf_standsIn (tA s209 124 (ix x1)) s209) fun r215 s214 =>
    some ((), s214)
    else none
    else none
  else
  if v2 = 26 then
    if inb x1 70000 then
    ob (cf_standsIn (tA σ 122 (ix x1)) σ) fun r221 s220 =>
    if inb x1 70000 then
    ob (cf_standsIn (tA s220 123 (ix x1)) s220) fun r226 s225 =>
    some ((), s225)
    else none
    else none
  else
  if v2 = 27 then
    if inb x1 70000 then
    ob (cf_standsIn (tA σ 122 (ix x1)) σ) fun r232 s231 =>
    if inb x1 70000 then
    ob (cf_standsIn (tA s231 123 (ix x1)) s231) fun r237 s236 =>
    some ((), s236)
    else none
    else none
  else
  if v2 = 28 then
    if inb x1 70000 then
    ob (cf_standsIn (tA σ 122 (ix x1)) σ) fun r243 s242 =>
    if inb x1 70000 then
    ob (cf_standsIn (tA s242 123 (ix x1)) s242) fun r248 s247 =>
    some ((), s247)
    else none
    else none
  else
  if v2 = 29 then
    if inb x1 70000 then
    ob (cf_standsIn (tA σ 122 (ix x1)) σ) fun r254 s253 =>
    if inb x1 70000 then
    ob (cf_standsIn (tA s253 123 (ix x1)) s253) fun r259 s258 =>
    some ((), s258)
    else none
    else none
  else
  if v2 = 30 then
    if inb x1 70000 then
    if inb (tA σ 122 (ix x1)) 200 then
    nm (tsA σ 201 (ix (tA σ 122 (ix x1))) (nZ 1)) fun s265 =>
    some ((), s265)
    else none
    else none
  else
  if inb x1 70000 then
  ob (cf_standsIn (tA σ 122 (ix x1)) σ) fun r268 s267 =>
  if inb x1 70000 then
  ob (cf_standsIn (tA s267 123 (ix x1)) s267) fun r273 s272 =>
  some ((), s272)
  else none
  else none
  else none
def G_standsIn : Nat → (Int32 → TS → Option (Unit × TS))
  | 0 => (fun _ _ => none)
  | d + 1 => (B_standsIn (G_standsIn d))
def F_standsIn : Int32 → TS → Option (Unit × TS) := (G_standsIn 300)
def L_learn_2 : Nat → Int32 → Int32 → TS → Option (Unit × TS)
  | 0, _, _, _ => none
  | n + 1, x1, x2, σ =>
    if 200 ≤ x2 then
      some ((), σ)
    else
      if inb x2 200 then
      nm (tsA σ 201 (ix x2) (nZ 0)) fun s2 =>
      nm (x2 + 1) fun v3 =>
      L_learn_2 n x1 v3 s2
      else none
def L_learn_44 : Nat → Int32 → Int32 → TS → Option (Unit × TS)
  | 0, _, _, _ => none
  | n + 1, x1, x2, σ =>
    if 200 ≤ x2 then
      some ((), σ)
    else
      if inb x2 200 then
      if inb ((x1 * 200) + x2) 80000 then
      nm (tsA σ 202 (ix ((x1 * 200) + x2)) (nZ (tA σ 201 (ix x2)))) fun s21 =>
      nm (x2 + 1) fun v22 =>
      L_learn_44 n x1 v22 s21
      else none
      else none
def F_learn (x1 : Int32) (σ : TS) : Option (Unit × TS) :=
  ob (L_learn_2 FU x1 0 σ) fun q5 s6 =>
  if inb x1 400 then
  ob (F_standsIn (tA s6 141 (ix x1)) s6) fun r10 s9 =>
  if inb x1 400 then
  ob (F_standsIn (tA s9 142 (ix x1)) s9) fun r15 s14 =>
  ob (L_learn_44 FU x1 0 s14) fun q24 s25 =>
  some ((), s25)
  else none
  else none
def F_differentiate (x1 : Int32) (σ : TS) : Option (Unit × TS) :=
  if tI σ 143 = 180 then
    ob (F_bad 52 (tI σ 204) σ) fun r71 s70 =>
    some ((), s70)
  else
    nm (tI σ 143) fun v1 =>
    nm (tsI σ 143 ((tI σ 143) + 1)) fun s2 =>
    if inb v1 400 then
    nm (tsA s2 180 (ix v1) (nZ 0)) fun s4 =>
    if inb x1 400 then
    ob (F_derived (tA s4 141 (ix x1)) s4) fun r7 s6 =>
    if inb v1 400 then
    nm (tsA s6 141 (ix v1) r7) fun s11 =>
    if inb x1 400 then
    ob (F_derived (tA s11 142 (ix x1)) s11) fun r14 s13 =>
    if inb v1 400 then
    nm (tsA s13 142 (ix v1) r14) fun s18 =>
    if inb v1 400 then
    nm (tsA s18 194 (ix v1) (-1)) fun s20 =>
    if inb v1 400 then
    nm (tsA s20 195 (ix v1) x1) fun s22 =>
    if inb x1 400 then
    nm (tsA s22 194 (ix x1) v1) fun s24 =>
    ob (F_isBad s24) fun r26 s25 =>
    if r26 = 0 then
      if inb v1 400 then
      ob (F_printedSize (tA s25 141 (ix v1)) s25) fun r31 s30 =>
      if inb v1 400 then
      ob (F_printedSize (tA s30 142 (ix v1)) s30) fun r36 s35 =>
      nm (tsL s35 203 ((tL s25 203) + (r31 + r36))) fun s39 =>
      if 0 < lg_cmp (tL s39 203) 40000 then
        ob (F_bad 52 (tI s39 204) s39) fun r41 s40 =>
        some ((), s40)
      else
        if inb v1 400 then
        ob (F_printedHeight (tA s39 141 (ix v1)) s39) fun r46 s45 =>
        if 200 < r46 then
          ob (F_bad 52 (tI s45 204) s45) fun r50 s49 =>
          some ((), s49)
        else
          if inb v1 400 then
          ob (F_printedHeight (tA s45 142 (ix v1)) s45) fun r55 s54 =>
          if r55 ≤ 200 then
            ob (F_learn v1 s54) fun r59 s58 =>
            some ((), s58)
          else
            ob (F_bad 52 (tI s54 204) s54) fun r63 s62 =>
            some ((), s62)
          else none
        else none
      else none
      else none
    else
      some ((), s25)
    else none
    else none
    else none
    else none
    else none
    else none
    else none
    else none
def L_differs_2 : Nat → Int32 → TS → Option ((Unit ⊕ Int32) × TS)
  | 0, _, _ => none
  | n + 1, x1, σ =>
    if tI σ 154 ≤ x1 then
      some (.inl (), σ)
    else
      ob (F_isBad σ) fun r2 s1 =>
      if r2 = 0 then
        if inb x1 24 then
        if inb (tA s1 153 (ix x1)) 70000 then
        if tA s1 121 (ix (tA s1 153 (ix x1))) = 24 then
          nm (x1 + 1) fun v22 =>
          L_differs_2 n v22 s1
        else
          if inb x1 24 then
          ob (F_finds (tA s1 153 (ix x1)) 0 s1) fun r9 s8 =>
          if inb x1 24 then
          if r9 = tA s8 163 (ix x1) then
            nm (x1 + 1) fun v14 =>
            L_differs_2 n v14 s8
          else
            ob (F_isBad s8) fun r16 s15 =>
            if r16 = 0 then
              some (.inr 1, s15)
            else
              nm (x1 + 1) fun v19 =>
              L_differs_2 n v19 s15
          else none
          else none
        else none
        else none
      else
        some (.inl (), s1)
def F_differs (σ : TS) : Option (Int32 × TS) :=
  obS (L_differs_2 FU 0 σ) (fun r30 s27 => some (r30, s27)) fun q26 s27 =>
  some (0, s27)
def J_element_162 (x1 : Int32) (σ : TS) : Option (Unit × TS) :=
  ob (F_isBad σ) fun r26 s25 =>
  if r26 = 0 then
    nm (tsI s25 58 ((tI s25 58) + 1)) fun s29 =>
    if inb x1 24 then
    if inb x1 24 then
    nm (tsA s29 46 (ix x1) ((tA s29 46 (ix x1)) + 1)) fun s32 =>
    some ((), s32)
    else none
    else none
  else
    some ((), s25)
def F_element (x1 : Int32) (σ : TS) : Option (Unit × TS) :=
  if inb x1 24 then
  if tA σ 46 (ix x1) = 20 then
    if tI σ 11 = 0 then
      ob (F_cantStand σ) fun r58 s57 =>
      some ((), s57)
    else
      if tI σ 11 = 4 then
        ob (F_cantStand σ) fun r62 s61 =>
        some ((), s61)
      else
        ob (F_isWord 7309752731624370030 σ) fun r66 s65 =>
        if r66 = 0 then
          ob (F_bad 7 (tI s65 12) s65) fun r70 s69 =>
          some ((), s69)
        else
          ob (F_cantStand s65) fun r74 s73 =>
          some ((), s73)
  else
    nm (tI σ 58) fun v2 =>
    if inb v2 481 then
    nm (tsA σ 52 (ix v2) 0) fun s4 =>
    if inb v2 481 then
    nm (tsA s4 53 (ix v2) 0) fun s6 =>
    if inb v2 481 then
    nm (tsA s6 54 (ix v2) 0) fun s8 =>
    if inb v2 481 then
    nm (tsA s8 55 (ix v2) 0) fun s10 =>
    if inb v2 481 then
    nm (tsA s10 56 (ix v2) 0) fun s12 =>
    ob (F_isWord 28561413961049203 s12) fun r14 s13 =>
    if inb v2 481 then
    nm (tsA s13 57 (ix v2) (nZ r14)) fun s18 =>
    if inb v2 481 then
    if tA s18 57 (ix v2) = 0 then
      ob (F_component x1 v2 s18) fun r22 s21 =>
      J_element_162 x1 s21
    else
      ob (F_next s18) fun r35 s34 =>
      ob (F_passName s34) fun r39 s38 =>
      if inb v2 481 then
      nm (tsB s38 51 (ix v2) r39) fun s43 =>
      if inb v2 481 then
      nm (tsB s43 50 (ix v2) 0) fun s45 =>
      ob (F_modsOf s45) fun r47 s46 =>
      if inb v2 481 then
      nm (tsA s46 55 (ix v2) r47) fun s51 =>
      ob (F_pass 59 s51) fun r53 s52 =>
      J_element_162 x1 s52
      else none
      else none
      else none
    else none
    else none
    else none
    else none
    else none
    else none
    else none
  else none
def L_eliminate_21 : Nat → Int32 → Int32 → Int32 → Int32 → TS → Option (Int32 × TS)
  | 0, _, _, _, _, _ => none
  | n + 1, x1, x2, x3, x4, σ =>
    if x1 ≤ x4 then
      some (x3, σ)
    else
      if inb ((x4 * 181) + x2) 32580 then
      if inb ((x3 * 181) + x2) 32580 then
      if lg_cmp (mabsL ((tA σ 225 (ix ((x4 * 181) + x2))).toInt64)) (mabsL ((tA σ 225 (ix ((x3 * 181) + x2))).toInt64)) ≤ 0 then
        nm (x4 + 1) fun v8 =>
        L_eliminate_21 n x1 x2 x3 v8 σ
      else
        nm (x4 + 1) fun v9 =>
        L_eliminate_21 n x1 x2 x4 v9 σ
      else none
      else none
def L_eliminate_99 : Nat → Int32 → Int32 → Int32 → Int32 → TS → Option (Unit × TS)
  | 0, _, _, _, _, _ => none
  | n + 1, x1, x2, x3, x4, σ =>
    if x1 < x4 then
      some ((), σ)
    else
      if x3 = x2 then
        some ((), σ)
      else
        if inb ((x2 * 181) + x4) 32580 then
        nm (tA σ 225 (ix ((x2 * 181) + x4))) fun v17 =>
        if inb ((x3 * 181) + x4) 32580 then
        if inb ((x2 * 181) + x4) 32580 then
        nm (tsA σ 225 (ix ((x2 * 181) + x4)) (tA σ 225 (ix ((x3 * 181) + x4)))) fun s20 =>
        if inb ((x3 * 181) + x4) 32580 then
        nm (tsA s20 225 (ix ((x3 * 181) + x4)) v17) fun s22 =>
        nm (x4 + 1) fun v23 =>
        L_eliminate_99 n x1 x2 x3 v23 s22
        else none
        else none
        else none
        else none
def L_eliminate_240 : Nat → Int32 → Int32 → Int32 → Int32 → Int32 → TS → Option (Unit × TS)
  | 0, _, _, _, _, _, _ => none
  | n + 1, x1, x2, x4, x5, x6, σ =>
    if x1 < x6 then
      some ((), σ)
    else
      ob (F_isBad σ) fun r44 s43 =>
      if r44 = 0 then
        if inb ((x2 * 181) + x6) 32580 then
        ob (F_times x5 (tA s43 225 (ix ((x2 * 181) + x6))) s43) fun r49 s48 =>
        ob (F_isBad s48) fun r53 s52 =>
        if r53 = 0 then
          if inb ((x4 * 181) + x6) 32580 then
          ob (F_fit (((tA s52 225 (ix ((x4 * 181) + x6))).toInt64) - ((r49).toInt64)) s52) fun r59 s58 =>
          if inb ((x4 * 181) + x6) 32580 then
          nm (tsA s58 225 (ix ((x4 * 181) + x6)) r59) fun s63 =>
          nm (x6 + 1) fun v64 =>
          L_eliminate_240 n x1 x2 x4 x5 v64 s63
          else none
          else none
        else
          nm (x6 + 1) fun v56 =>
          L_eliminate_240 n x1 x2 x4 x5 v56 s52
        else none
      else
        some ((), s43)
def L_eliminate_177 : Nat → Int32 → Int32 → Int32 → TS → Option (Unit × TS)
  | 0, _, _, _, _ => none
  | n + 1, x1, x2, x4, σ =>
    if x1 ≤ x4 then
      some ((), σ)
    else
      ob (F_isBad σ) fun r31 s30 =>
      if r31 = 0 then
        if inb ((x4 * 181) + x2) 32580 then
        if inb ((x2 * 181) + x2) 32580 then
        ob (F_over (tA s30 225 (ix ((x4 * 181) + x2))) (tA s30 225 (ix ((x2 * 181) + x2))) s30) fun r37 s36 =>
        if inb ((x4 * 181) + x2) 32580 then
        nm (tsA s36 225 (ix ((x4 * 181) + x2)) 0) fun s41 =>
        nm (x2 + 1) fun v42 =>
        ob (L_eliminate_240 FU x1 x2 x4 r37 v42 s41) fun q68 s69 =>
        nm (x4 + 1) fun v71 =>
        L_eliminate_177 n x1 x2 v71 s69
        else none
        else none
        else none
      else
        some ((), s30)
def J_eliminate_172_2 (rec : Int32 → Int32 → TS → Option ((Unit ⊕ Unit) × TS)) (x1 : Int32) (x2 : Int32) (σ : TS) : Option ((Unit ⊕ Unit) × TS) :=
  nm (x2 + 1) fun v29 =>
  ob (L_eliminate_177 FU x1 x2 v29 σ) fun q75 s76 =>
  nm (x2 + 1) fun v78 =>
  rec x1 v78 s76
def L_eliminate_2 : Nat → Int32 → Int32 → TS → Option ((Unit ⊕ Unit) × TS)
  | 0, _, _, _ => none
  | n + 1, x1, x2, σ =>
    if x1 ≤ x2 then
      some (.inl (), σ)
    else
      ob (F_isBad σ) fun r2 s1 =>
      if r2 = 0 then
        nm (x2 + 1) fun v5 =>
        ob (L_eliminate_21 FU x1 x2 x2 v5 s1) fun q12 s13 =>
        if inb ((q12 * 181) + x2) 32580 then
        if tA s13 225 (ix ((q12 * 181) + x2)) = 0 then
          ob (F_bad 43 0 s13) fun r82 s81 =>
          some (.inr (), s81)
        else
          ob (L_eliminate_99 FU x1 x2 q12 0 s13) fun q26 s27 =>
          J_eliminate_172_2 (L_eliminate_2 n) x1 x2 s27
        else none
      else
        some (.inl (), s1)
def L_eliminate_369 : Nat → Int32 → Int32 → Int32 → Int32 → TS → Option (Int32 × TS)
  | 0, _, _, _, _, _ => none
  | n + 1, x1, x2, x3, x4, σ =>
    if x1 ≤ x4 then
      some (x3, σ)
    else
      ob (F_isBad σ) fun r101 s100 =>
      if r101 = 0 then
        if inb ((x2 * 181) + x4) 32580 then
        if inb x4 180 then
        ob (F_times (tA s100 225 (ix ((x2 * 181) + x4))) (tA s100 226 (ix x4)) s100) fun r107 s106 =>
        ob (F_isBad s106) fun r111 s110 =>
        if r111 = 0 then
          ob (F_fit (((x3).toInt64) - ((r107).toInt64)) s110) fun r116 s115 =>
          nm (x4 + 1) fun v119 =>
          L_eliminate_369 n x1 x2 r116 v119 s115
        else
          nm (x4 + 1) fun v114 =>
          L_eliminate_369 n x1 x2 x3 v114 s110
        else none
        else none
      else
        some (x3, s100)
def J_eliminate_432_340 (rec : Int32 → Int32 → TS → Option (Unit × TS)) (x1 : Int32) (x2 : Int32) (x3 : Int32) (σ : TS) : Option (Unit × TS) :=
  ob (F_isBad σ) fun r127 s126 =>
  if r127 = 0 then
    if inb ((x2 * 181) + x2) 32580 then
    ob (F_over x3 (tA s126 225 (ix ((x2 * 181) + x2))) s126) fun r132 s131 =>
    if inb x2 180 then
    nm (tsA s131 226 (ix x2) r132) fun s136 =>
    nm (x2 + (-1)) fun v137 =>
    rec x1 v137 s136
    else none
    else none
  else
    if inb x2 180 then
    nm (tsA s126 226 (ix x2) 0) fun s139 =>
    nm (x2 + (-1)) fun v140 =>
    rec x1 v140 s139
    else none
def L_eliminate_340 : Nat → Int32 → Int32 → TS → Option (Unit × TS)
  | 0, _, _, _ => none
  | n + 1, x1, x2, σ =>
    if x2 < 0 then
      some ((), σ)
    else
      ob (F_isBad σ) fun r94 s93 =>
      if r94 = 0 then
        if inb ((x2 * 181) + x1) 32580 then
        nm (tA s93 225 (ix ((x2 * 181) + x1))) fun v98 =>
        nm (x2 + 1) fun v99 =>
        ob (L_eliminate_369 FU x1 x2 v98 v99 s93) fun q123 s124 =>
        J_eliminate_432_340 (L_eliminate_340 n) x1 x2 q123 s124
        else none
      else
        some ((), s93)
def J_eliminate_336 (x1 : Int32) (σ : TS) : Option (Unit × TS) :=
  nm (x1 - 1) fun v92 =>
  ob (L_eliminate_340 FU x1 v92 σ) fun q145 s146 =>
  some ((), s146)
def F_eliminate (x1 : Int32) (σ : TS) : Option (Unit × TS) :=
  obS (L_eliminate_2 FU x1 0 σ) (fun r150 s90 => some (r150, s90)) fun q89 s90 =>
  J_eliminate_336 x1 s90
def F_end (x1 : Int32) (σ : TS) : Option (Int32 × TS) :=
  if x1 < 0 then
    some ((-1), σ)
  else
    if x1 ≤ tI σ 7 then
      nm (tsI σ 7 x1) fun s1 =>
      some (x1, s1)
    else
      some ((-1), σ)
def B_straight (cf_straight : Int32 → Int32 → TS → Option (Int32 × TS)) (x1 : Int32) (x2 : Int32) (σ : TS) : Option (Int32 × TS) :=
  ob (F_contains x1 x2 σ) fun r2 s1 =>
  if r2 = 0 then
    some (1, s1)
  else
    if inb x1 70000 then
    if tA s1 121 (ix x1) = 2 then
      some (1, s1)
    else
    if tA s1 121 (ix x1) = 3 then
      some (1, s1)
    else
    if tA s1 121 (ix x1) = 4 then
      some (0, s1)
    else
    if tA s1 121 (ix x1) = 5 then
      if inb x1 70000 then
      ob (cf_straight (tA s1 122 (ix x1)) x2 s1) fun r12 s11 =>
      if r12 = 0 then
        some (0, s11)
      else
        if inb x1 70000 then
        ob (cf_straight (tA s11 123 (ix x1)) x2 s11) fun r17 s16 =>
        if r17 = 0 then
          some (0, s16)
        else
          some (1, s16)
        else none
      else none
    else
    if tA s1 121 (ix x1) = 6 then
      if inb x1 70000 then
      ob (cf_straight (tA s1 122 (ix x1)) x2 s1) fun r25 s24 =>
      if r25 = 0 then
        some (0, s24)
      else
        if inb x1 70000 then
        ob (cf_straight (tA s24 123 (ix x1)) x2 s24) fun r30 s29 =>
        if r30 = 0 then
          some (0, s29)
        else
          some (1, s29)
        else none
      else none
    else
    if tA s1 121 (ix x1) = 7 then
      if inb x1 70000 then
      ob (cf_straight (tA s1 122 (ix x1)) x2 s1) fun r38 s37 =>
      some (r38, s37)
      else none
    else
    if tA s1 121 (ix x1) = 8 then
      if inb x1 70000 then
      ob (F_contains (tA s1 122 (ix x1)) x2 s1) fun r44 s43 =>
      if r44 = 0 then
        if inb x1 70000 then
        ob (cf_straight (tA s43 123 (ix x1)) x2 s43) fun r49 s48 =>
        some (r49, s48)
        else none
      else
        if inb x1 70000 then
        ob (F_contains (tA s43 123 (ix x1)) x2 s43) fun r54 s53 =>
        if r54 = 0 then
          if inb x1 70000 then
          ob (cf_straight (tA s53 122 (ix x1)) x2 s53) fun r59 s58 =>
          if r59 = 0 then
            some (0, s58)
          else
            some (1, s58)
          else none
        else
          some (0, s53)
        else none
      else none
    else
    if tA s1 121 (ix x1) = 9 then
      if inb x1 70000 then
      ob (F_contains (tA s1 123 (ix x1)) x2 s1) fun r68 s67 =>
      if r68 = 0 then
        if inb x1 70000 then
        ob (cf_straight (tA s67 122 (ix x1)) x2 s67) fun r73 s72 =>
        if r73 = 0 then
          some (0, s72)
        else
          some (1, s72)
        else none
      else
        some (0, s67)
      else none
    else
    if tA s1 121 (ix x1) = 10 then
      some (0, s1)
    else
    if tA s1 121 (ix x1) = 11 then
      some (0, s1)
    else
    if tA s1 121 (ix x1) = 12 then
      some (0, s1)
    else
    if tA s1 121 (ix x1) = 13 then
      some (0, s1)
    else
    if tA s1 121 (ix x1) = 14 then
      some (0, s1)
    else
    if tA s1 121 (ix x1) = 15 then
      some (0, s1)
    else
    if tA s1 121 (ix x1) = 16 then
      if inb x1 70000 then
      ob (F_contains (tA s1 122 (ix x1)) x2 s1) fun r87 s86 =>
      if r87 = 0 then
        if inb x1 70000 then
        ob (cf_straight (tA s86 123 (ix x1)) x2 s86) fun r92 s91 =>
        if r92 = 0 then
          some (0, s91)
        else
          if inb x1 70000 then
          ob (cf_straight (tA s91 124 (ix x1)) x2 s91) fun r97 s96 =>
          if r97 = 0 then
            some (0, s96)
          else
            some (1, s96)
          else none
        else none
      else
        some (0, s86)
      else none
    else
    if tA s1 121 (ix x1) = 17 then
      some (0, s1)
    else
    if tA s1 121 (ix x1) = 18 then
      some (0, s1)
    else
    if tA s1 121 (ix x1) = 19 then
      some (0, s1)
    else
    if tA s1 121 (ix x1) = 20 then
      some (0, s1)
    else
    if tA s1 121 (ix x1) = 21 then
      some (0, s1)
    else
    if tA s1 121 (ix x1) = 22 then
      some (0, s1)
    else
    if tA s1 121 (ix x1) = 23 then
      some (0, s1)
    else
    if tA s1 121 (ix x1) = 24 then
      some (0, s1)
    else
    if tA s1 121 (ix x1) = 25 then
      some (0, s1)
    else
    if tA s1 121 (ix x1) = 26 then
      some (0, s1)
    else
    if tA s1 121 (ix x1) = 27 then
      some (0, s1)
    else
    if tA s1 121 (ix x1) = 28 then
      some (0, s1)
    else
    if tA s1 121 (ix x1) = 29 then
      some (0, s1)
    else
    if tA s1 121 (ix x1) = 30 then
      some (1, s1)
    else
    some (0, s1)
    else none
def G_straight : Nat → (Int32 → Int32 → TS → Option (Int32 × TS))
  | 0 => (fun _ _ _ => none)
  | d + 1 => (B_straight (G_straight d))
def F_straight : Int32 → Int32 → TS → Option (Int32 × TS) := (G_straight 300)
def F_isLinear (x1 : Int32) (x2 : Int32) (σ : TS) : Option (Int32 × TS) :=
  if inb x1 400 then
  ob (F_straight (tA σ 141 (ix x1)) x2 σ) fun r3 s2 =>
  if r3 = 0 then
    some (0, s2)
  else
    if inb x1 400 then
    ob (F_straight (tA s2 142 (ix x1)) x2 s2) fun r8 s7 =>
    if r8 = 0 then
      some (0, s7)
    else
      some (1, s7)
    else none
  else none
def L_endBlock_30 : Nat → Int32 → Int32 → Int32 → Int32 → TS → Option (Int32 × TS)
  | 0, _, _, _, _, _ => none
  | n + 1, x1, x2, x3, x4, σ =>
    if x4 = 0 then
      some (x3, σ)
    else
      nm (tsI σ 220 ((tI σ 220) - 1)) fun s5 =>
      if inb (tI s5 220) 400 then
      nm (tA s5 217 (ix (tI s5 220))) fun v7 =>
      if inb v7 400 then
      nm (tsA s5 218 (ix v7) (nZ 0)) fun s9 =>
      if inb v7 400 then
      nm (tsA s9 196 (ix v7) x2) fun s11 =>
      nm (x3 + 1) fun v12 =>
      if v7 = x1 then
        L_endBlock_30 n x1 x2 v12 0 s11
      else
        L_endBlock_30 n x1 x2 v12 1 s11
      else none
      else none
      else none
def L_endBlock_107 : Nat → Int32 → Int32 → Int32 → Int32 → TS → Option (Unit × TS)
  | 0, _, _, _, _, _ => none
  | n + 1, x2, x3, x5, x6, σ =>
    if tI σ 143 ≤ x6 then
      some ((), σ)
    else
      if inb x6 400 then
      if tA σ 196 (ix x6) = x2 then
        if inb x6 400 then
        if tA σ 180 (ix x6) = 0 then
          if inb x5 400 then
          nm (tsA σ 211 (ix x5) x6) fun s26 =>
          nm (x5 + 1) fun v27 =>
          nm (x6 + 1) fun v28 =>
          L_endBlock_107 n x2 x3 v27 v28 s26
          else none
        else
          nm (x6 + 1) fun v29 =>
          L_endBlock_107 n x2 x3 x5 v29 σ
        else none
      else
        nm (x6 + 1) fun v22 =>
        L_endBlock_107 n x2 x3 x5 v22 σ
      else none
def L_endBlock_167 : Nat → Int32 → Int32 → Int32 → Int32 → TS → Option (Unit × TS)
  | 0, _, _, _, _, _ => none
  | n + 1, x2, x3, x5, x6, σ =>
    if tI σ 197 ≤ x6 then
      some ((), σ)
    else
      if inb x6 200 then
      if tA σ 192 (ix x6) = 2 then
        nm (x6 + 1) fun v38 =>
        L_endBlock_167 n x2 x3 x5 v38 σ
      else
        if inb x6 200 then
        if tA σ 191 (ix x6) < 0 then
          nm (x6 + 1) fun v40 =>
          L_endBlock_167 n x2 x3 x5 v40 σ
        else
          if inb x6 200 then
          if inb (tA σ 191 (ix x6)) 400 then
          if tA σ 196 (ix (tA σ 191 (ix x6))) = x2 then
            if inb x5 400 then
            nm (tsA σ 212 (ix x5) x6) fun s44 =>
            nm (x5 + 1) fun v45 =>
            nm (x6 + 1) fun v46 =>
            L_endBlock_167 n x2 x3 v45 v46 s44
            else none
          else
            nm (x6 + 1) fun v47 =>
            L_endBlock_167 n x2 x3 x5 v47 σ
          else none
          else none
        else none
      else none
def J_endBlock_257 (x2 : Int32) (x3 : Int32) (σ : TS) : Option (Unit × TS) :=
  if x3 = 1 then
    if inb x2 400 then
    if inb (tA σ 209 (ix x2)) 400 then
    if inb x2 400 then
    if inb (tA σ 209 (ix x2)) 400 then
    ob (F_isLinear (tA σ 211 (ix (tA σ 209 (ix x2)))) (tA σ 212 (ix (tA σ 209 (ix x2)))) σ) fun r63 s62 =>
    if r63 = 0 then
      if inb x2 400 then
      nm (tsA s62 213 (ix x2) (nZ 0)) fun s67 =>
      some ((), s67)
      else none
    else
      if inb x2 400 then
      nm (tsA s62 213 (ix x2) (nZ 1)) fun s69 =>
      some ((), s69)
      else none
    else none
    else none
    else none
    else none
  else
    if inb x2 400 then
    nm (tsA σ 213 (ix x2) (nZ 0)) fun s57 =>
    some ((), s57)
    else none
def F_endBlock (x1 : Int32) (σ : TS) : Option (Unit × TS) :=
  nm (tI σ 208) fun v1 =>
  nm (tsI σ 208 ((tI σ 208) + 1)) fun s2 =>
  if inb v1 400 then
  nm (tsA s2 209 (ix v1) (tI s2 214)) fun s4 =>
  ob (L_endBlock_30 FU x1 v1 0 1 s4) fun q15 s16 =>
  if inb v1 400 then
  nm (tsA s16 210 (ix v1) q15) fun s19 =>
  nm (tI s19 214) fun v20 =>
  ob (L_endBlock_107 FU v1 q15 v20 0 s19) fun q33 s34 =>
  nm (tI s34 214) fun v36 =>
  ob (L_endBlock_167 FU v1 q15 v36 0 s34) fun q52 s53 =>
  nm (tsI s53 214 ((tI s53 214) + q15)) fun s55 =>
  if q15 ≤ 12 then
    J_endBlock_257 v1 q15 s55
  else
    ob (F_bad 55 v1 s55) fun r73 s72 =>
    J_endBlock_257 v1 q15 s72
  else none
  else none
def J_eq_20 (x1 : Int32) (x2 : Int32) (x3 : Int32) (x4 : Int32) (σ : TS) : Option (Int32 × TS) :=
  if inb (tI σ 72) 3000 then
  nm (tsA σ 66 (ix (tI σ 72)) x1) fun s2 =>
  if inb (tI s2 72) 3000 then
  nm (tsA s2 67 (ix (tI s2 72)) x2) fun s4 =>
  if inb (tI s4 72) 3000 then
  nm (tsA s4 68 (ix (tI s4 72)) x3) fun s6 =>
  if inb (tI s6 72) 3000 then
  nm (tsA s6 69 (ix (tI s6 72)) x4) fun s8 =>
  if inb (tI s8 72) 3000 then
  nm (tsA s8 70 (ix (tI s8 72)) 0) fun s10 =>
  nm (tsI s10 72 ((tI s10 72) + 1)) fun s11 =>
  some ((tI s11 72) - 1, s11)
  else none
  else none
  else none
  else none
  else none
def F_eq (x1 : Int32) (x2 : Int32) (x3 : Int32) (x4 : Int32) (σ : TS) : Option (Int32 × TS) :=
  if tI σ 72 = 3000 then
    nm (tsI σ 72 ((tI σ 72) - 1)) fun s12 =>
    J_eq_20 x1 x2 x3 x4 s12
  else
    J_eq_20 x1 x2 x3 x4 σ
def F_orNone (x0 : Int32) (σ : TS) : Option (Int32 × TS) :=
  if 0 ≤ x0 then
    some (x0, σ)
  else
    some ((-2), σ)
def L_equation_80 : Nat → Int32 → Int32 → Int32 → Int32 → TS → Option ((Int32 ⊕ Int32) × TS)
  | 0, _, _, _, _, _ => none
  | n + 1, x1, x2, x3, x4, σ =>
    if tI σ 197 ≤ x4 then
      some (.inl x3, σ)
    else
      ob (F_isIn x4 x1 σ) fun r3 s2 =>
      if r3 = 0 then
        nm (x4 + 1) fun v12 =>
        L_equation_80 n x1 x2 x3 v12 s2
      else
        if x2 < 4 then
          nm (x3 + 1) fun v6 =>
          nm (x4 + 1) fun v7 =>
          L_equation_80 n x1 x2 v6 v7 s2
        else
          if x3 = x2 - 4 then
            some (.inr x4, s2)
          else
            nm (x3 + 1) fun v8 =>
            nm (x4 + 1) fun v9 =>
            L_equation_80 n x1 x2 v8 v9 s2
def F_equation (x1 : Int32) (x2 : Int32) (σ : TS) : Option (Int32 × TS) :=
  if tI σ 109 = 0 then
    some ((-4), σ)
  else
    if x1 < 0 then
      some ((-2), σ)
    else
      if x1 < tI σ 143 then
        if 0 ≤ x2 then
          if x2 = 0 then
            if inb x1 400 then
            ob (F_orNone (tA σ 194 (ix x1)) σ) fun r35 s34 =>
            some (r35, s34)
            else none
          else
            if x2 = 1 then
              if inb x1 400 then
              ob (F_orNone (tA σ 195 (ix x1)) σ) fun r29 s28 =>
              some (r29, s28)
              else none
            else
              if x2 = 2 then
                if inb x1 400 then
                ob (F_orNone (tA σ 196 (ix x1)) σ) fun r23 s22 =>
                some (r23, s22)
                else none
              else
                obS (L_equation_80 FU x1 x2 0 0 σ) (fun r20 s16 => some (r20, s16)) fun q15 s16 =>
                if x2 = 3 then
                  some (q15, s16)
                else
                  some ((-2), s16)
        else
          some ((-1), σ)
      else
        some ((-2), σ)
def L_readWhen_20 : Nat → Int32 → Int32 → Int32 → TS → Option (Int32 × TS)
  | 0, _, _, _, _ => none
  | n + 1, x1, x2, x3, σ =>
    ob (F_isBad σ) fun r14 s13 =>
    if r14 = 0 then
      ob (F_isWord 6647396 s13) fun r18 s17 =>
      if r18 = 0 then
        ob (F_isWord 125779886106996 s17) fun r22 s21 =>
        if r22 = 0 then
          ob (F_ref s21) fun r26 s25 =>
          ob (F_pass 61 s25) fun r30 s29 =>
          ob (F_expression s29) fun r34 s33 =>
          ob (F_pass 59 s33) fun r38 s37 =>
          ob (F_eq 6 r26 r34 0 s37) fun r42 s41 =>
          if x2 = 0 then
            L_readWhen_20 n x1 r42 r42 s41
          else
            if inb x3 3000 then
            nm (tsA s41 70 (ix x3) r42) fun s46 =>
            L_readWhen_20 n x1 x2 r42 s46
            else none
        else
          ob (F_next s21) fun r49 s48 =>
          ob (F_pass 40 s48) fun r53 s52 =>
          ob (F_ref s52) fun r57 s56 =>
          ob (F_pass 44 s56) fun r61 s60 =>
          ob (F_expression s60) fun r65 s64 =>
          ob (F_pass 41 s64) fun r69 s68 =>
          ob (F_pass 59 s68) fun r73 s72 =>
          ob (F_eq 7 r57 r65 0 s72) fun r77 s76 =>
          if x2 = 0 then
            L_readWhen_20 n x1 r77 r77 s76
          else
            if inb x3 3000 then
            nm (tsA s76 70 (ix x3) r77) fun s81 =>
            L_readWhen_20 n x1 x2 r77 s81
            else none
      else
        some (x2, s17)
    else
      some (x2, s13)
def F_readWhen (σ : TS) : Option (Int32 × TS) :=
  ob (F_next σ) fun r2 s1 =>
  ob (F_condition s1) fun r6 s5 =>
  ob (F_passWord 1952998766 s5) fun r10 s9 =>
  ob (L_readWhen_20 FU r6 0 0 s9) fun q86 s87 =>
  ob (F_passWord 6647396 s87) fun r90 s89 =>
  ob (F_pass 59 s89) fun r94 s93 =>
  ob (F_eq 5 r6 q86 0 s93) fun r98 s97 =>
  some (r98, s97)
def F_sumOrIf (σ : TS) : Option (Int32 × TS) :=
  ob (F_expression σ) fun r2 s1 =>
  some (r2, s1)
def J_equations_48_4 (cf_readEquation : Int32 → TS → Option (Int32 × TS)) (rec : Int32 → Int32 → Int32 → TS → Option ((Int32 ⊕ Int32) × TS)) (x1 : Int32) (x2 : Int32) (x3 : Int32) (σ : TS) : Option ((Int32 ⊕ Int32) × TS) :=
  ob (cf_readEquation x1 σ) fun r14 s13 =>
  ob (F_isBad s13) fun r18 s17 =>
  if r18 = 0 then
    if x2 = 0 then
      rec x1 r14 r14 s17
    else
      if inb x3 3000 then
      nm (tsA s17 70 (ix x3) r14) fun s22 =>
      rec x1 x2 r14 s22
      else none
  else
    some (.inr 0, s17)
def L_equations_4 (cf_readEquation : Int32 → TS → Option (Int32 × TS)) : Nat → Int32 → Int32 → Int32 → TS → Option ((Int32 ⊕ Int32) × TS)
  | 0, _, _, _, _ => none
  | n + 1, x1, x2, x3, σ =>
    ob (F_isBad σ) fun r2 s1 =>
    if r2 = 0 then
      ob (F_isWord 6647396 s1) fun r6 s5 =>
      if r6 = 0 then
        ob (F_isWord 1701606245 s5) fun r10 s9 =>
        if r10 = 0 then
          if x1 = 0 then
            J_equations_48_4 cf_readEquation (L_equations_4 cf_readEquation n) x1 x2 x3 s9
          else
            ob (F_isWord 1701606245 s9) fun r26 s25 =>
            if r26 = 0 then
              J_equations_48_4 cf_readEquation (L_equations_4 cf_readEquation n) x1 x2 x3 s25
            else
              some (.inl x2, s25)
        else
          some (.inl x2, s9)
      else
        some (.inl x2, s5)
    else
      some (.inl x2, s1)
def B_equations (cf_readEquation : Int32 → TS → Option (Int32 × TS)) (x1 : Int32) (σ : TS) : Option (Int32 × TS) :=
  obS (L_equations_4 cf_readEquation FU x1 0 0 σ) (fun r38 s35 => some (r38, s35)) fun q34 s35 =>
  some (q34, s35)
def J_readEquation_158 (cf_readFor : TS → Option (Int32 × TS)) (cf_readIf : TS → Option (Int32 × TS)) (σ : TS) : Option (Int32 × TS) :=
  ob (F_sumOrIf σ) fun r23 s22 =>
  ob (F_pass 61 s22) fun r27 s26 =>
  ob (F_expression s26) fun r31 s30 =>
  ob (F_pass 59 s30) fun r35 s34 =>
  ob (F_eq 1 r23 r31 0 s34) fun r39 s38 =>
  some (r39, s38)
def B_readEquation (cf_readFor : TS → Option (Int32 × TS)) (cf_readIf : TS → Option (Int32 × TS)) (x1 : Int32) (σ : TS) : Option (Int32 × TS) :=
  if tI σ 11 = 0 then
    ob (F_cantStand σ) fun r2 s1 =>
    some (0, s1)
  else
    if tI σ 11 = 4 then
      ob (F_cantStand σ) fun r97 s96 =>
      some (0, s96)
    else
      if tI σ 73 = 40 then
        ob (F_bad 7 (tI σ 12) σ) fun r92 s91 =>
        some (0, s91)
      else
        nm (tsI σ 73 ((tI σ 73) + 1)) fun s5 =>
        ob (F_isWord 27988542783578996 s5) fun r7 s6 =>
        if r7 = 0 then
          ob (F_isWord 6713202 s6) fun r11 s10 =>
          if r11 = 0 then
            ob (F_isWord 26982 s10) fun r15 s14 =>
            if r15 = 0 then
              ob (F_isWord 2003330414 s14) fun r19 s18 =>
              if r19 = 0 then
                J_readEquation_158 cf_readFor cf_readIf s18
              else
                if x1 = 0 then
                  J_readEquation_158 cf_readFor cf_readIf s18
                else
                  ob (F_readWhen s18) fun r43 s42 =>
                  some (r43, s42)
            else
              ob (cf_readIf s14) fun r49 s48 =>
              some (r49, s48)
          else
            ob (cf_readFor s10) fun r54 s53 =>
            some (r54, s53)
        else
          ob (F_next s6) fun r59 s58 =>
          ob (F_pass 40 s58) fun r63 s62 =>
          ob (F_ref s62) fun r67 s66 =>
          ob (F_pass 44 s66) fun r71 s70 =>
          ob (F_ref s70) fun r75 s74 =>
          ob (F_pass 41 s74) fun r79 s78 =>
          ob (F_pass 59 s78) fun r83 s82 =>
          ob (F_eq 2 r67 r75 0 s82) fun r87 s86 =>
          some (r87, s86)
def B_readFor (cf_equations : Int32 → TS → Option (Int32 × TS)) (σ : TS) : Option (Int32 × TS) :=
  ob (F_deeper σ) fun r2 s1 =>
  ob (F_next s1) fun r6 s5 =>
  ob (F_passName s5) fun r10 s9 =>
  ob (F_passWord 26990 s9) fun r14 s13 =>
  ob (F_passWhole 99 s13) fun r18 s17 =>
  ob (F_pass 58 s17) fun r22 s21 =>
  ob (F_passWhole 99 s21) fun r26 s25 =>
  ob (F_passWord 1819242352 s25) fun r30 s29 =>
  ob (F_isBad s29) fun r34 s33 =>
  if r34 = 0 then
    if inb (tI s33 37) 20 then
    nm (tsB s33 35 (ix (tI s33 37)) r10) fun s38 =>
    nm (tsI s38 37 ((tI s38 37) + 1)) fun s39 =>
    ob (cf_equations 0 s39) fun r41 s40 =>
    nm (tsI s40 37 ((tI s40 37) - 1)) fun s44 =>
    ob (F_passWord 6647396 s44) fun r46 s45 =>
    ob (F_pass 59 s45) fun r50 s49 =>
    nm (tsI s49 20 ((tI s49 20) - 1)) fun s53 =>
    ob (F_eq 3 r41 r18 r26 s53) fun r55 s54 =>
    if inb r55 3000 then
    nm (tsB s54 71 (ix r55) r10) fun s59 =>
    some (r55, s59)
    else none
    else none
  else
    some (0, s33)
def J_readIf_55 (cf_equations : Int32 → TS → Option (Int32 × TS)) (x1 : Int32) (x2 : Int32) (x3 : Int32) (σ : TS) : Option (Int32 × TS) :=
  ob (F_passWord 6647396 σ) fun r26 s25 =>
  ob (F_pass 59 s25) fun r30 s29 =>
  nm (tsI s29 20 ((tI s29 20) - 1)) fun s33 =>
  ob (F_eq 4 x1 x2 x3 s33) fun r35 s34 =>
  some (r35, s34)
def B_readIf (cf_equations : Int32 → TS → Option (Int32 × TS)) (σ : TS) : Option (Int32 × TS) :=
  ob (F_deeper σ) fun r2 s1 =>
  ob (F_next s1) fun r6 s5 =>
  ob (F_condition s5) fun r10 s9 =>
  ob (F_passWord 1952998766 s9) fun r14 s13 =>
  ob (cf_equations 0 s13) fun r18 s17 =>
  ob (F_isBad s17) fun r22 s21 =>
  if r22 = 0 then
    ob (F_isWord 1701606245 s21) fun r39 s38 =>
    if r39 = 0 then
      J_readIf_55 cf_equations r10 r18 0 s38
    else
      ob (F_next s38) fun r43 s42 =>
      ob (cf_equations 0 s42) fun r47 s46 =>
      J_readIf_55 cf_equations r10 r18 r47 s46
  else
    J_readIf_55 cf_equations r10 r18 0 s21
def G_equations : Nat → (Int32 → TS → Option (Int32 × TS)) × (Int32 → TS → Option (Int32 × TS)) × (TS → Option (Int32 × TS)) × (TS → Option (Int32 × TS))
  | 0 => (fun _ _ => none, fun _ _ => none, fun _ => none, fun _ => none)
  | d + 1 => (B_equations (G_equations d).2.1, B_readEquation (G_equations d).2.2.1 (G_equations d).2.2.2, B_readFor (G_equations d).1, B_readIf (G_equations d).1)
def F_equations : Int32 → TS → Option (Int32 × TS) := (G_equations 60).1
def F_readEquation : Int32 → TS → Option (Int32 × TS) := (G_equations 60).2.1
def F_readFor : TS → Option (Int32 × TS) := (G_equations 60).2.2.1
def F_readIf : TS → Option (Int32 × TS) := (G_equations 60).2.2.2
def F_leftLessRight (x1 : Int32) (σ : TS) : Option (Int32 × TS) :=
  if inb x1 400 then
  ob (F_worth (tA σ 141 (ix x1)) 1 σ) fun r3 s2 =>
  if inb x1 400 then
  ob (F_worth (tA s2 142 (ix x1)) 1 s2) fun r8 s7 =>
  ob (F_isBad s7) fun r12 s11 =>
  if r12 = 0 then
    ob (F_fit (((r3).toInt64) - ((r8).toInt64)) s11) fun r16 s15 =>
    some (r16, s15)
  else
    some (0, s11)
  else none
  else none
def J_solveLinear_87 (x3 : Int32) (x4 : Int32) (y0 : Int32) (σ : TS) : Option (Unit × TS) :=
  ob (F_isBad σ) fun r32 s31 =>
  if r32 = 0 then
    if y0 = 0 then
      ob (F_bad 43 0 s31) fun r42 s41 =>
      some ((), s41)
    else
      ob (F_over (-x4) y0 s31) fun r36 s35 =>
      if inb x3 200 then
      nm (tsA s35 166 (ix x3) r36) fun s40 =>
      some ((), s40)
      else none
  else
    some ((), s31)
def J_solveLinear_63 (x3 : Int32) (x4 : Int32) (y0 : Int32) (σ : TS) : Option (Unit × TS) :=
  ob (F_isBad σ) fun r24 s23 =>
  if r24 = 0 then
    ob (F_fit (((y0).toInt64) - ((x4).toInt64)) s23) fun r28 s27 =>
    J_solveLinear_87 x3 x4 r28 s27
  else
    J_solveLinear_87 x3 x4 0 s23
def F_solveLinear (x1 : Int32) (σ : TS) : Option (Unit × TS) :=
  if inb x1 400 then
  if inb (tA σ 209 (ix x1)) 400 then
  nm (tA σ 211 (ix (tA σ 209 (ix x1)))) fun v3 =>
  if inb x1 400 then
  if inb (tA σ 209 (ix x1)) 400 then
  nm (tA σ 212 (ix (tA σ 209 (ix x1)))) fun v6 =>
  if inb v6 200 then
  nm (tsA σ 166 (ix v6) 0) fun s8 =>
  ob (F_leftLessRight v3 s8) fun r10 s9 =>
  if inb v6 200 then
  nm (tsA s9 166 (ix v6) 65536) fun s14 =>
  ob (F_isBad s14) fun r16 s15 =>
  if r16 = 0 then
    ob (F_leftLessRight v3 s15) fun r20 s19 =>
    J_solveLinear_63 v6 r10 r20 s19
  else
    J_solveLinear_63 v6 r10 0 s15
  else none
  else none
  else none
  else none
  else none
  else none
