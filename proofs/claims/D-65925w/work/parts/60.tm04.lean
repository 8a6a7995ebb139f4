set_option maxRecDepth 100000
def J_partial_195 (cf_partial : Int32 → Int32 → TS → Option (Int32 × TS)) (x1 : Int32) (x3 : Int32) (y0 : Int32) (σ : TS) : Option (Int32 × TS) :=
  if x3 = 30 then
    some (y0, σ)
  else
    if inb x1 70000 then
    if inb (tA σ 122 (ix x1)) 96 then
    if 0 ≤ tA σ 178 (ix (tA σ 122 (ix x1))) then
      some (y0, σ)
    else
      some (-y0, σ)
    else none
    else none
def J_partial_179 (cf_partial : Int32 → Int32 → TS → Option (Int32 × TS)) (x1 : Int32) (x2 : Int32) (x3 : Int32) (σ : TS) : Option (Int32 × TS) :=
  ob (F_leafUnknown x1 σ) fun r11 s10 =>
  if r11 = x2 then
    J_partial_195 cf_partial x1 x3 65536 s10
  else
    J_partial_195 cf_partial x1 x3 0 s10
def J_partial_382 (cf_partial : Int32 → Int32 → TS → Option (Int32 × TS)) (x1 : Int32) (x2 : Int32) (y0 : Int32) (σ : TS) : Option (Int32 × TS) :=
  if inb x1 70000 then
  ob (F_worth (tA σ 122 (ix x1)) 1 σ) fun r96 s95 =>
  if inb x1 70000 then
  ob (cf_partial (tA s95 123 (ix x1)) x2 s95) fun r101 s100 =>
  ob (F_isBad s100) fun r105 s104 =>
  if r105 = 0 then
    ob (F_times r96 r101 s104) fun r109 s108 =>
    ob (F_isBad s108) fun r113 s112 =>
    if r113 = 0 then
      ob (F_fit (((y0).toInt64) + ((r109).toInt64)) s112) fun r117 s116 =>
      some (r117, s116)
    else
      some (0, s112)
  else
    ob (F_isBad s104) fun r122 s121 =>
    if r122 = 0 then
      ob (F_fit (((y0).toInt64) + (((0 : Int32)).toInt64)) s121) fun r126 s125 =>
      some (r126, s125)
    else
      some (0, s121)
  else none
  else none
def J_partial_570 (cf_partial : Int32 → Int32 → TS → Option (Int32 × TS)) (x1 : Int32) (y0 : Int32) (σ : TS) : Option (Int32 × TS) :=
  if inb x1 70000 then
  ob (F_worth (tA σ 123 (ix x1)) 1 σ) fun r179 s178 =>
  ob (F_isBad s178) fun r183 s182 =>
  if r183 = 0 then
    ob (F_over y0 r179 s182) fun r187 s186 =>
    some (r187, s186)
  else
    some (0, s182)
  else none
def J_partial_546 (cf_partial : Int32 → Int32 → TS → Option (Int32 × TS)) (x1 : Int32) (x4 : Int32) (y0 : Int32) (σ : TS) : Option (Int32 × TS) :=
  ob (F_isBad σ) fun r170 s169 =>
  if r170 = 0 then
    ob (F_fit (((x4).toInt64) - ((y0).toInt64)) s169) fun r174 s173 =>
    J_partial_570 cf_partial x1 r174 s173
  else
    J_partial_570 cf_partial x1 0 s169
def J_partial_512 (cf_partial : Int32 → Int32 → TS → Option (Int32 × TS)) (x1 : Int32) (x2 : Int32) (x4 : Int32) (y0 : Int32) (σ : TS) : Option (Int32 × TS) :=
  if inb x1 70000 then
  ob (cf_partial (tA σ 123 (ix x1)) x2 σ) fun r158 s157 =>
  ob (F_isBad s157) fun r162 s161 =>
  if r162 = 0 then
    ob (F_times y0 r158 s161) fun r166 s165 =>
    J_partial_546 cf_partial x1 x4 r166 s165
  else
    J_partial_546 cf_partial x1 x4 0 s161
  else none
def J_partial_803 (cf_partial : Int32 → Int32 → TS → Option (Int32 × TS)) (x1 : Int32) (x2 : Int32) (y0 : Int32) (σ : TS) : Option (Int32 × TS) :=
  ob (F_isBad σ) fun r280 s279 =>
  if r280 = 0 then
    if y0 = 0 then
      if inb x1 70000 then
      ob (cf_partial (tA s279 123 (ix x1)) x2 s279) fun r285 s284 =>
      some (r285, s284)
      else none
    else
      if inb x1 70000 then
      ob (cf_partial (tA s279 122 (ix x1)) x2 s279) fun r290 s289 =>
      some (r290, s289)
      else none
  else
    some (0, s279)
def B_partial (cf_partial : Int32 → Int32 → TS → Option (Int32 × TS)) (x1 : Int32) (x2 : Int32) (σ : TS) : Option (Int32 × TS) :=
  ob (F_isBad σ) fun r2 s1 =>
  if r2 = 0 then
    if inb x1 70000 then
    nm (tA s1 121 (ix x1)) fun v6 =>
    if v6 = 0 then
      some (0, s1)
    else
    if v6 = 1 then
      some (0, s1)
    else
    if v6 = 2 then
      if v6 = 2 then
        if inb x1 70000 then
        if inb (tA s1 122 (ix x1)) 96 then
        if tA s1 94 (ix (tA s1 122 (ix x1))) = 0 then
          J_partial_179 cf_partial x1 x2 v6 s1
        else
          some (0, s1)
        else none
        else none
      else
        J_partial_179 cf_partial x1 x2 v6 s1
    else
    if v6 = 3 then
      if v6 = 2 then
        if inb x1 70000 then
        if inb (tA s1 122 (ix x1)) 96 then
        if tA s1 94 (ix (tA s1 122 (ix x1))) = 0 then
          J_partial_179 cf_partial x1 x2 v6 s1
        else
          some (0, s1)
        else none
        else none
      else
        J_partial_179 cf_partial x1 x2 v6 s1
    else
    if v6 = 4 then
      some (0, s1)
    else
    if v6 = 5 then
      if inb x1 70000 then
      ob (cf_partial (tA s1 122 (ix x1)) x2 s1) fun r32 s31 =>
      if inb x1 70000 then
      ob (cf_partial (tA s31 123 (ix x1)) x2 s31) fun r37 s36 =>
      ob (F_isBad s36) fun r41 s40 =>
      if r41 = 0 then
        ob (F_fit (((r32).toInt64) + ((r37).toInt64)) s40) fun r45 s44 =>
        some (r45, s44)
      else
        some (0, s40)
      else none
      else none
    else
    if v6 = 6 then
      if inb x1 70000 then
      ob (cf_partial (tA s1 122 (ix x1)) x2 s1) fun r52 s51 =>
      if inb x1 70000 then
      ob (cf_partial (tA s51 123 (ix x1)) x2 s51) fun r57 s56 =>
      ob (F_isBad s56) fun r61 s60 =>
      if r61 = 0 then
        ob (F_fit (((r52).toInt64) - ((r57).toInt64)) s60) fun r65 s64 =>
        some (r65, s64)
      else
        some (0, s60)
      else none
      else none
    else
    if v6 = 7 then
      if inb x1 70000 then
      ob (cf_partial (tA s1 122 (ix x1)) x2 s1) fun r72 s71 =>
      some (-r72, s71)
      else none
    else
    if v6 = 8 then
      if inb x1 70000 then
      ob (cf_partial (tA s1 122 (ix x1)) x2 s1) fun r78 s77 =>
      if inb x1 70000 then
      ob (F_worth (tA s77 123 (ix x1)) 1 s77) fun r83 s82 =>
      ob (F_isBad s82) fun r87 s86 =>
      if r87 = 0 then
        ob (F_times r78 r83 s86) fun r91 s90 =>
        J_partial_382 cf_partial x1 x2 r91 s90
      else
        J_partial_382 cf_partial x1 x2 0 s86
      else none
      else none
    else
    if v6 = 9 then
      if inb x1 70000 then
      ob (cf_partial (tA s1 122 (ix x1)) x2 s1) fun r135 s134 =>
      if inb x1 70000 then
      ob (F_worth (tA s134 122 (ix x1)) 1 s134) fun r140 s139 =>
      if inb x1 70000 then
      ob (F_worth (tA s139 123 (ix x1)) 1 s139) fun r145 s144 =>
      ob (F_isBad s144) fun r149 s148 =>
      if r149 = 0 then
        ob (F_over r140 r145 s148) fun r153 s152 =>
        J_partial_512 cf_partial x1 x2 r135 r153 s152
      else
        J_partial_512 cf_partial x1 x2 r135 0 s148
      else none
      else none
      else none
    else
    if v6 = 10 then
      if inb x1 70000 then
      ob (F_worth (tA s1 122 (ix x1)) 1 s1) fun r197 s196 =>
      if inb x1 70000 then
      ob (cf_partial (tA s196 122 (ix x1)) x2 s196) fun r202 s201 =>
      ob (F_isBad s201) fun r206 s205 =>
      if r206 = 0 then
        if 0 ≤ r197 then
          if r197 ≤ 0 then
            ob (F_times 0 r202 s205) fun r210 s209 =>
            some (r210, s209)
          else
            ob (F_times 65536 r202 s205) fun r214 s213 =>
            some (r214, s213)
        else
          ob (F_times (-65536) r202 s205) fun r219 s218 =>
          some (r219, s218)
      else
        some (0, s205)
      else none
      else none
    else
    if v6 = 11 then
      if inb x1 70000 then
      ob (cf_partial (tA s1 122 (ix x1)) x2 s1) fun r227 s226 =>
      if inb x1 70000 then
      ob (F_worth (tA s226 122 (ix x1)) 1 s226) fun r232 s231 =>
      ob (F_root r232 s231) fun r236 s235 =>
      ob (F_isBad s235) fun r240 s239 =>
      if r240 = 0 then
        ob (F_times 131072 r236 s239) fun r244 s243 =>
        ob (F_isBad s243) fun r248 s247 =>
        if r248 = 0 then
          ob (F_over r227 r244 s247) fun r252 s251 =>
          some (r252, s251)
        else
          some (0, s247)
      else
        ob (F_isBad s239) fun r257 s256 =>
        if r257 = 0 then
          ob (F_over r227 0 s256) fun r261 s260 =>
          some (r261, s260)
        else
          some (0, s256)
      else none
      else none
    else
    if v6 = 12 then
      some (0, s1)
    else
    if v6 = 13 then
      some (0, s1)
    else
    if v6 = 14 then
      if inb x1 70000 then
      ob (F_worth (tA s1 122 (ix x1)) 1 s1) fun r271 s270 =>
      if inb x1 70000 then
      ob (F_worth (tA s270 123 (ix x1)) 1 s270) fun r276 s275 =>
      if v6 = 14 then
        if r276 < r271 then
          J_partial_803 cf_partial x1 x2 0 s275
        else
          J_partial_803 cf_partial x1 x2 1 s275
      else
        if r271 < r276 then
          J_partial_803 cf_partial x1 x2 0 s275
        else
          J_partial_803 cf_partial x1 x2 1 s275
      else none
      else none
    else
    if v6 = 15 then
      if inb x1 70000 then
      ob (F_worth (tA s1 122 (ix x1)) 1 s1) fun r301 s300 =>
      if inb x1 70000 then
      ob (F_worth (tA s300 123 (ix x1)) 1 s300) fun r306 s305 =>
      if v6 = 14 then
        if r306 < r301 then
          J_partial_803 cf_partial x1 x2 0 s305
        else
          J_partial_803 cf_partial x1 x2 1 s305
      else
        if r301 < r306 then
          J_partial_803 cf_partial x1 x2 0 s305
        else
          J_partial_803 cf_partial x1 x2 1 s305
      else none
      else none
    else
    if v6 = 16 then
      if inb x1 70000 then
      ob (F_holds (tA s1 122 (ix x1)) 1 s1) fun r315 s314 =>
      if r315 = 0 then
        if inb x1 70000 then
        ob (cf_partial (tA s314 124 (ix x1)) x2 s314) fun r320 s319 =>
        some (r320, s319)
        else none
      else
        if inb x1 70000 then
        ob (cf_partial (tA s314 123 (ix x1)) x2 s314) fun r325 s324 =>
        some (r325, s324)
        else none
      else none
    else
    if v6 = 17 then
      if inb x1 70000 then
      ob (F_holds (tA s1 122 (ix x1)) 1 s1) fun r332 s331 =>
      if r332 = 0 then
        if inb x1 70000 then
        ob (cf_partial (tA s331 124 (ix x1)) x2 s331) fun r337 s336 =>
        some (r337, s336)
        else none
      else
        if inb x1 70000 then
        ob (cf_partial (tA s331 123 (ix x1)) x2 s331) fun r342 s341 =>
        some (r342, s341)
        else none
      else none
    else
    if v6 = 18 then
      if inb x1 70000 then
      ob (F_holds (tA s1 122 (ix x1)) 1 s1) fun r349 s348 =>
      if r349 = 0 then
        if inb x1 70000 then
        ob (cf_partial (tA s348 124 (ix x1)) x2 s348) fun r354 s353 =>
        some (r354, s353)
        else none
      else
        if inb x1 70000 then
        ob (cf_partial (tA s348 123 (ix x1)) x2 s348) fun r359 s358 =>
        some (r359, s358)
        else none
      else none
    else
    if v6 = 19 then
      if inb x1 70000 then
      ob (F_holds (tA s1 122 (ix x1)) 1 s1) fun r366 s365 =>
      if r366 = 0 then
        if inb x1 70000 then
        ob (cf_partial (tA s365 124 (ix x1)) x2 s365) fun r371 s370 =>
        some (r371, s370)
        else none
      else
        if inb x1 70000 then
        ob (cf_partial (tA s365 123 (ix x1)) x2 s365) fun r376 s375 =>
        some (r376, s375)
        else none
      else none
    else
    if v6 = 20 then
      if inb x1 70000 then
      ob (F_holds (tA s1 122 (ix x1)) 1 s1) fun r383 s382 =>
      if r383 = 0 then
        if inb x1 70000 then
        ob (cf_partial (tA s382 124 (ix x1)) x2 s382) fun r388 s387 =>
        some (r388, s387)
        else none
      else
        if inb x1 70000 then
        ob (cf_partial (tA s382 123 (ix x1)) x2 s382) fun r393 s392 =>
        some (r393, s392)
        else none
      else none
    else
    if v6 = 21 then
      if inb x1 70000 then
      ob (F_holds (tA s1 122 (ix x1)) 1 s1) fun r400 s399 =>
      if r400 = 0 then
        if inb x1 70000 then
        ob (cf_partial (tA s399 124 (ix x1)) x2 s399) fun r405 s404 =>
        some (r405, s404)
        else none
      else
        if inb x1 70000 then
        ob (cf_partial (tA s399 123 (ix x1)) x2 s399) fun r410 s409 =>
        some (r410, s409)
        else none
      else none
    else
    if v6 = 22 then
      if inb x1 70000 then
      ob (F_holds (tA s1 122 (ix x1)) 1 s1) fun r417 s416 =>
      if r417 = 0 then
        if inb x1 70000 then
        ob (cf_partial (tA s416 124 (ix x1)) x2 s416) fun r422 s421 =>
        some (r422, s421)
        else none
      else
        if inb x1 70000 then
        ob (cf_partial (tA s416 123 (ix x1)) x2 s416) fun r427 s426 =>
        some (r427, s426)
        else none
      else none
    else
    if v6 = 23 then
      if inb x1 70000 then
      ob (F_holds (tA s1 122 (ix x1)) 1 s1) fun r434 s433 =>
      if r434 = 0 then
        if inb x1 70000 then
        ob (cf_partial (tA s433 124 (ix x1)) x2 s433) fun r439 s438 =>
        some (r439, s438)
        else none
      else
        if inb x1 70000 then
        ob (cf_partial (tA s433 123 (ix x1)) x2 s433) fun r444 s443 =>
        some (r444, s443)
        else none
      else none
    else
    if v6 = 24 then
      if inb x1 70000 then
      ob (F_holds (tA s1 122 (ix x1)) 1 s1) fun r451 s450 =>
      if r451 = 0 then
        if inb x1 70000 then
        ob (cf_partial (tA s450 124 (ix x1)) x2 s450) fun r456 s455 =>
        some (r456, s455)
        else none
      else
        if inb x1 70000 then
        ob (cf_partial (tA s450 123 (ix x1)) x2 s450) fun r461 s460 =>
        some (r461, s460)
        else none
      else none
    else
    if v6 = 25 then
      if inb x1 70000 then
      ob (F_holds (tA s1 122 (ix x1)) 1 s1) fun r468 s467 =>
      if r468 = 0 then
        if inb x1 70000 then
        ob (cf_partial (tA s467 124 (ix x1)) x2 s467) fun r473 s472 =>
        some (r473, s472)
        else none
      else
        if inb x1 70000 then
        ob (cf_partial (tA s467 123 (ix x1)) x2 s467) fun r478 s477 =>
        some (r478, s477)
        else none
      else none
    else
    if v6 = 26 then
      if inb x1 70000 then
      ob (F_holds (tA s1 122 (ix x1)) 1 s1) fun r485 s484 =>
      if r485 = 0 then
        if inb x1 70000 then
        ob (cf_partial (tA s484 124 (ix x1)) x2 s484) fun r490 s489 =>
        some (r490, s489)
        else none
      else
        if inb x1 70000 then
        ob (cf_partial (tA s484 123 (ix x1)) x2 s484) fun r495 s494 =>
        some (r495, s494)
        else none
      else none
    else
    if v6 = 27 then
      if inb x1 70000 then
      ob (F_holds (tA s1 122 (ix x1)) 1 s1) fun r502 s501 =>
      if r502 = 0 then
        if inb x1 70000 then
        ob (cf_partial (tA s501 124 (ix x1)) x2 s501) fun r507 s506 =>
        some (r507, s506)
        else none
      else
        if inb x1 70000 then
        ob (cf_partial (tA s501 123 (ix x1)) x2 s501) fun r512 s511 =>
        some (r512, s511)
        else none
      else none
    else
    if v6 = 28 then
      if inb x1 70000 then
      ob (F_holds (tA s1 122 (ix x1)) 1 s1) fun r519 s518 =>
      if r519 = 0 then
        if inb x1 70000 then
        ob (cf_partial (tA s518 124 (ix x1)) x2 s518) fun r524 s523 =>
        some (r524, s523)
        else none
      else
        if inb x1 70000 then
        ob (cf_partial (tA s518 123 (ix x1)) x2 s518) fun r529 s528 =>
        some (r529, s528)
        else none
      else none
    else
    if v6 = 29 then
      if inb x1 70000 then
      ob (F_holds (tA s1 122 (ix x1)) 1 s1) fun r536 s535 =>
      if r536 = 0 then
        if inb x1 70000 then
        ob (cf_partial (tA s535 124 (ix x1)) x2 s535) fun r541 s540 =>
        some (r541, s540)
        else none
      else
        if inb x1 70000 then
        ob (cf_partial (tA s535 123 (ix x1)) x2 s535) fun r546 s545 =>
        some (r546, s545)
        else none
      else none
    else
    if v6 = 30 then
      if v6 = 2 then
        if inb x1 70000 then
        if inb (tA s1 122 (ix x1)) 96 then
        if tA s1 94 (ix (tA s1 122 (ix x1))) = 0 then
          J_partial_179 cf_partial x1 x2 v6 s1
        else
          some (0, s1)
        else none
        else none
      else
        J_partial_179 cf_partial x1 x2 v6 s1
    else
    if inb x1 70000 then
    ob (F_holds (tA s1 122 (ix x1)) 1 s1) fun r557 s556 =>
    if r557 = 0 then
      if inb x1 70000 then
      ob (cf_partial (tA s556 124 (ix x1)) x2 s556) fun r562 s561 =>
      some (r562, s561)
      else none
    else
      if inb x1 70000 then
      ob (cf_partial (tA s556 123 (ix x1)) x2 s556) fun r567 s566 =>
      some (r567, s566)
      else none
    else none
    else none
  else
    some (0, s1)
def G_partial : Nat → (Int32 → Int32 → TS → Option (Int32 × TS))
  | 0 => (fun _ _ _ => none)
  | d + 1 => (B_partial (G_partial d))
def F_partial : Int32 → Int32 → TS → Option (Int32 × TS) := (G_partial 300)
def L_solveRounds_84 : Nat → Int32 → Int32 → Int32 → Int32 → Int32 → Int32 → TS → Option (Unit × TS)
  | 0, _, _, _, _, _, _, _ => none
  | n + 1, x2, x3, x4, x5, x6, x7, σ =>
    if x2 ≤ x7 then
      some ((), σ)
    else
      ob (F_isBad σ) fun r19 s18 =>
      if r19 = 0 then
        if inb x6 400 then
        if inb (x3 + x7) 400 then
        ob (F_partial (tA s18 141 (ix x6)) (tA s18 212 (ix (x3 + x7))) s18) fun r25 s24 =>
        if inb x6 400 then
        if inb (x3 + x7) 400 then
        ob (F_partial (tA s24 142 (ix x6)) (tA s24 212 (ix (x3 + x7))) s24) fun r31 s30 =>
        ob (F_isBad s30) fun r35 s34 =>
        if r35 = 0 then
          ob (F_fit (((r25).toInt64) - ((r31).toInt64)) s34) fun r39 s38 =>
          if inb ((x5 * 181) + x7) 32580 then
          nm (tsA s38 225 (ix ((x5 * 181) + x7)) r39) fun s43 =>
          nm (x7 + 1) fun v44 =>
          L_solveRounds_84 n x2 x3 x4 x5 x6 v44 s43
          else none
        else
          if inb ((x5 * 181) + x7) 32580 then
          nm (tsA s34 225 (ix ((x5 * 181) + x7)) 0) fun s46 =>
          nm (x7 + 1) fun v47 =>
          L_solveRounds_84 n x2 x3 x4 x5 x6 v47 s46
          else none
        else none
        else none
        else none
        else none
      else
        some ((), s18)
def L_solveRounds_37 : Nat → Int32 → Int32 → Int32 → Int32 → TS → Option (Unit × TS)
  | 0, _, _, _, _, _ => none
  | n + 1, x2, x3, x4, x5, σ =>
    if x2 ≤ x5 then
      some ((), σ)
    else
      ob (F_isBad σ) fun r7 s6 =>
      if r7 = 0 then
        if inb (x3 + x5) 400 then
        nm (tA s6 211 (ix (x3 + x5))) fun v11 =>
        ob (F_leftLessRight v11 s6) fun r13 s12 =>
        if inb ((x5 * 181) + x2) 32580 then
        nm (tsA s12 225 (ix ((x5 * 181) + x2)) (-r13)) fun s17 =>
        ob (L_solveRounds_84 FU x2 x3 x4 x5 v11 0 s17) fun q51 s52 =>
        nm (x5 + 1) fun v54 =>
        L_solveRounds_37 n x2 x3 x4 v54 s52
        else none
        else none
      else
        some ((), s6)
def L_solveRounds_204 : Nat → Int32 → Int32 → Int32 → Int32 → TS → Option (Unit × TS)
  | 0, _, _, _, _, _ => none
  | n + 1, x2, x3, x4, x5, σ =>
    if x2 ≤ x5 then
      some ((), σ)
    else
      ob (F_isBad σ) fun r66 s65 =>
      if r66 = 0 then
        if inb (x3 + x5) 400 then
        if inb (x3 + x5) 400 then
        if inb (tA s65 212 (ix (x3 + x5))) 200 then
        if inb x5 180 then
        ob (F_fit (((tA s65 166 (ix (tA s65 212 (ix (x3 + x5))))).toInt64) + ((tA s65 226 (ix x5)).toInt64)) s65) fun r74 s73 =>
        if inb (tA s65 212 (ix (x3 + x5))) 200 then
        nm (tsA s73 166 (ix (tA s65 212 (ix (x3 + x5)))) r74) fun s78 =>
        nm (x5 + 1) fun v79 =>
        L_solveRounds_204 n x2 x3 x4 v79 s78
        else none
        else none
        else none
        else none
        else none
      else
        some ((), s65)
def J_solveRounds_201_17 (rec : Int32 → Int32 → Int32 → TS → Option ((Unit ⊕ Unit) × TS)) (x2 : Int32) (x3 : Int32) (x4 : Int32) (σ : TS) : Option ((Unit ⊕ Unit) × TS) :=
  ob (L_solveRounds_204 FU x2 x3 x4 0 σ) fun q82 s83 =>
  ob (F_isBad s83) fun r86 s85 =>
  if r86 = 0 then
    ob (F_areSmall x2 s85) fun r90 s89 =>
    if r90 = 0 then
      nm (x4 + 1) fun v93 =>
      rec x2 x3 v93 s89
    else
      some (.inr (), s89)
  else
    some (.inr (), s85)
def J_solveRounds_189_17 (rec : Int32 → Int32 → Int32 → TS → Option ((Unit ⊕ Unit) × TS)) (x2 : Int32) (x3 : Int32) (x4 : Int32) (σ : TS) : Option ((Unit ⊕ Unit) × TS) :=
  ob (F_isBad σ) fun r62 s61 =>
  if r62 = 0 then
    ob (F_eliminate x2 s61) fun r98 s97 =>
    J_solveRounds_201_17 rec x2 x3 x4 s97
  else
    J_solveRounds_201_17 rec x2 x3 x4 s61
def L_solveRounds_17 : Nat → Int32 → Int32 → Int32 → TS → Option ((Unit ⊕ Unit) × TS)
  | 0, _, _, _, _ => none
  | n + 1, x2, x3, x4, σ =>
    if 15 ≤ x4 then
      some (.inl (), σ)
    else
      nm (tsI σ 222 ((tI σ 222) + 1)) fun s5 =>
      ob (L_solveRounds_37 FU x2 x3 x4 0 s5) fun q58 s59 =>
      J_solveRounds_189_17 (L_solveRounds_17 n) x2 x3 x4 s59
def F_solveRounds (x1 : Int32) (σ : TS) : Option (Unit × TS) :=
  if inb x1 400 then
  nm (tA σ 210 (ix x1)) fun v2 =>
  if inb x1 400 then
  nm (tA σ 209 (ix x1)) fun v4 =>
  obS (L_solveRounds_17 FU v2 v4 0 σ) (fun r112 s105 => some (r112, s105)) fun q104 s105 =>
  ob (F_bad 44 0 s105) fun r108 s107 =>
  some ((), s107)
  else none
  else none
def L_solveBlocks_2 : Nat → Int32 → TS → Option ((Unit ⊕ Unit) × TS)
  | 0, _, _ => none
  | n + 1, x1, σ =>
    if tI σ 208 ≤ x1 then
      some (.inl (), σ)
    else
      if inb x1 400 then
      if tA σ 213 (ix x1) = 0 then
        ob (F_solveRounds x1 σ) fun r4 s3 =>
        ob (F_isBad s3) fun r8 s7 =>
        if r8 = 0 then
          nm (x1 + 1) fun v11 =>
          L_solveBlocks_2 n v11 s7
        else
          nm (tsI s7 1 x1) fun s12 =>
          some (.inr (), s12)
      else
        ob (F_solveLinear x1 σ) fun r15 s14 =>
        ob (F_isBad s14) fun r19 s18 =>
        if r19 = 0 then
          nm (x1 + 1) fun v22 =>
          L_solveBlocks_2 n v22 s18
        else
          nm (tsI s18 1 x1) fun s23 =>
          some (.inr (), s23)
      else none
def F_solveBlocks (σ : TS) : Option (Unit × TS) :=
  obS (L_solveBlocks_2 FU 0 σ) (fun r31 s28 => some (r31, s28)) fun q27 s28 =>
  some ((), s28)
def L_event_12 : Nat → Int32 → Int32 → TS → Option (Unit × TS)
  | 0, _, _, _ => none
  | n + 1, x1, x2, σ =>
    if tI σ 197 ≤ x2 then
      some ((), σ)
    else
      if inb x2 200 then
      if inb x2 200 then
      nm (tsA σ 167 (ix x2) (tA σ 166 (ix x2))) fun s4 =>
      nm (x2 + 1) fun v5 =>
      L_event_12 n x1 v5 s4
      else none
      else none
def L_event_40 : Nat → Int32 → Int32 → TS → Option (Unit × TS)
  | 0, _, _, _ => none
  | n + 1, x1, x2, σ =>
    if tI σ 107 ≤ x2 then
      some ((), σ)
    else
      if inb x2 96 then
      if inb x2 96 then
      nm (tsA σ 169 (ix x2) (tA σ 168 (ix x2))) fun s12 =>
      nm (x2 + 1) fun v13 =>
      L_event_40 n x1 v13 s12
      else none
      else none
def L_event_68 : Nat → Int32 → Int32 → TS → Option (Unit × TS)
  | 0, _, _, _ => none
  | n + 1, x1, x2, σ =>
    if tI σ 154 ≤ x2 then
      some ((), σ)
    else
      if inb x2 24 then
      if inb (tA σ 153 (ix x2)) 70000 then
      if tA σ 121 (ix (tA σ 153 (ix x2))) = 24 then
        ob (F_isDue x2 σ) fun r22 s21 =>
        if inb x2 24 then
        nm (tsA s21 163 (ix x2) (nZ r22)) fun s26 =>
        nm (x2 + 1) fun v27 =>
        L_event_68 n x1 v27 s26
        else none
      else
        nm (x2 + 1) fun v20 =>
        L_event_68 n x1 v20 σ
      else none
      else none
def L_event_128 : Nat → Int32 → Int32 → Int32 → Int32 → TS → Option (Int32 × TS)
  | 0, _, _, _, _, _ => none
  | n + 1, x1, x2, x3, x4, σ =>
    if tI σ 154 ≤ x4 then
      some (x3, σ)
    else
      ob (F_isBad σ) fun r42 s41 =>
      if r42 = 0 then
        if inb x4 24 then
        if inb (tA s41 153 (ix x4)) 70000 then
        if tA s41 121 (ix (tA s41 153 (ix x4))) = 24 then
          nm (x4 + 1) fun v61 =>
          L_event_128 n x1 x2 x3 v61 s41
        else
          if inb x4 24 then
          ob (F_finds (tA s41 153 (ix x4)) 1 s41) fun r49 s48 =>
          if inb x4 24 then
          if r49 = tA s48 163 (ix x4) then
            if inb x4 24 then
            nm (tsA s48 163 (ix x4) (nZ r49)) fun s55 =>
            nm (x4 + 1) fun v56 =>
            L_event_128 n x1 x2 x3 v56 s55
            else none
          else
            if inb x4 24 then
            nm (tsA s48 163 (ix x4) (nZ r49)) fun s58 =>
            nm (x4 + 1) fun v59 =>
            L_event_128 n x1 x2 1 v59 s58
            else none
          else none
          else none
        else none
        else none
      else
        some (x3, s41)
def L_event_210 : Nat → Int32 → Int32 → Int32 → Int32 → TS → Option (Unit × TS)
  | 0, _, _, _, _, _ => none
  | n + 1, x1, x2, x3, x4, σ =>
    if tI σ 148 ≤ x4 then
      some ((), σ)
    else
      if inb x4 12 then
      ob (F_holds (tA σ 145 (ix x4)) 1 σ) fun r71 s70 =>
      if inb x4 12 then
      nm (tsA s70 236 (ix x4) (nZ r71)) fun s75 =>
      nm (x4 + 1) fun v76 =>
      L_event_210 n x1 x2 x3 v76 s75
      else none
      else none
def L_event_247 : Nat → Int32 → Int32 → Int32 → Int32 → TS → Option (Int32 × TS)
  | 0, _, _, _, _, _ => none
  | n + 1, x1, x2, x3, x4, σ =>
    if tI σ 148 ≤ x4 then
      some (x3, σ)
    else
      ob (F_isBad σ) fun r82 s81 =>
      if r82 = 0 then
        if x1 = 0 then
          if inb x4 12 then
          if tA s81 236 (ix x4) = 0 then
            nm (x4 + 1) fun v87 =>
            L_event_247 n x1 x2 x3 v87 s81
          else
            if inb x4 12 then
            if tA s81 235 (ix x4) = 0 then
              nm (tsI s81 239 ((tI s81 239) + 1)) fun s90 =>
              ob (F_act x4 s90) fun r92 s91 =>
              nm (x4 + 1) fun v95 =>
              L_event_247 n x1 x2 1 v95 s91
            else
              nm (x4 + 1) fun v96 =>
              L_event_247 n x1 x2 x3 v96 s81
            else none
          else none
        else
          some (x3, s81)
      else
        some (x3, s81)
def L_event_325 : Nat → Int32 → Int32 → Int32 → Int32 → TS → Option (Unit × TS)
  | 0, _, _, _, _, _ => none
  | n + 1, x1, x2, x3, x4, σ =>
    if tI σ 148 ≤ x4 then
      some ((), σ)
    else
      if inb x4 12 then
      if inb x4 12 then
      nm (tsA σ 235 (ix x4) (nZ (tA σ 236 (ix x4)))) fun s113 =>
      nm (x4 + 1) fun v114 =>
      L_event_325 n x1 x2 x3 v114 s113
      else none
      else none
def L_event_378 : Nat → Int32 → Int32 → Int32 → TS → Option (Unit × TS)
  | 0, _, _, _, _ => none
  | n + 1, x1, x2, x4, σ =>
    if tI σ 107 ≤ x4 then
      some ((), σ)
    else
      if inb x4 96 then
      if inb x4 96 then
      nm (tsA σ 169 (ix x4) (tA σ 168 (ix x4))) fun s121 =>
      nm (x4 + 1) fun v122 =>
      L_event_378 n x1 x2 v122 s121
      else none
      else none
def J_event_314_111 (rec : Int32 → Int32 → TS → Option ((Unit ⊕ Unit) × TS)) (x1 : Int32) (x2 : Int32) (x3 : Int32) (σ : TS) : Option ((Unit ⊕ Unit) × TS) :=
  ob (F_isBad σ) fun r107 s106 =>
  if r107 = 0 then
    ob (L_event_325 FU x1 x2 x3 0 s106) fun q116 s117 =>
    if x3 = 0 then
      some (.inl (), s117)
    else
      if x2 = 20 then
        ob (F_bad 60 0 s117) fun r130 s129 =>
        some (.inr (), s129)
      else
        ob (L_event_378 FU x1 x2 0 s117) fun q124 s125 =>
        nm (x2 + 1) fun v127 =>
        rec x1 v127 s125
  else
    some (.inr (), s106)
def J_event_207_111 (rec : Int32 → Int32 → TS → Option ((Unit ⊕ Unit) × TS)) (x1 : Int32) (x2 : Int32) (x3 : Int32) (σ : TS) : Option ((Unit ⊕ Unit) × TS) :=
  ob (L_event_210 FU x1 x2 x3 0 σ) fun q78 s79 =>
  ob (L_event_247 FU x1 x2 x3 0 s79) fun q102 s103 =>
  J_event_314_111 rec x1 x2 q102 s103
def L_event_111 : Nat → Int32 → Int32 → TS → Option ((Unit ⊕ Unit) × TS)
  | 0, _, _, _ => none
  | n + 1, x1, x2, σ =>
    ob (F_solveBlocks σ) fun r34 s33 =>
    ob (F_isBad s33) fun r38 s37 =>
    if r38 = 0 then
      ob (L_event_128 FU x1 x2 0 0 s37) fun q65 s66 =>
      J_event_207_111 (L_event_111 n) x1 x2 q65 s66
    else
      some (.inr (), s37)
def L_event_415 : Nat → Int32 → TS → Option (Unit × TS)
  | 0, _, _ => none
  | n + 1, x2, σ =>
    if tI σ 154 ≤ x2 then
      some ((), σ)
    else
      if inb x2 24 then
      if inb (tA σ 153 (ix x2)) 70000 then
      if tA σ 121 (ix (tA σ 153 (ix x2))) = 24 then
        if inb x2 24 then
        nm (tsA σ 163 (ix x2) (nZ 0)) fun s148 =>
        nm (x2 + 1) fun v149 =>
        L_event_415 n v149 s148
        else none
      else
        nm (x2 + 1) fun v146 =>
        L_event_415 n v146 σ
      else none
      else none
def L_event_466 : Nat → Int32 → TS → Option (Unit × TS)
  | 0, _, _ => none
  | n + 1, x2, σ =>
    if tI σ 148 ≤ x2 then
      some ((), σ)
    else
      if inb x2 12 then
      ob (F_holds (tA σ 145 (ix x2)) 1 σ) fun r165 s164 =>
      if inb x2 12 then
      nm (tsA s164 235 (ix x2) (nZ r165)) fun s169 =>
      nm (x2 + 1) fun v170 =>
      L_event_466 n v170 s169
      else none
      else none
def F_event (x1 : Int32) (σ : TS) : Option (Unit × TS) :=
  nm (tsI σ 238 ((tI σ 238) + 1)) fun s1 =>
  ob (L_event_12 FU x1 0 s1) fun q7 s8 =>
  ob (L_event_40 FU x1 0 s8) fun q15 s16 =>
  ob (L_event_68 FU x1 0 s16) fun q30 s31 =>
  obS (L_event_111 FU x1 1 s31) (fun r179 s142 => some (r179, s142)) fun q141 s142 =>
  ob (L_event_415 FU 0 s142) fun q152 s153 =>
  ob (F_solveBlocks s153) fun r156 s155 =>
  ob (F_isBad s155) fun r160 s159 =>
  if r160 = 0 then
    ob (L_event_466 FU 0 s159) fun q172 s173 =>
    some ((), s173)
  else
    some ((), s159)
def F_fault (x1 : Int32) (σ : TS) : Option (Int32 × TS) :=
  if x1 = 0 then
    some (tI σ 2, σ)
  else
    if x1 = 1 then
      some (tI σ 3, σ)
    else
      some ((-1), σ)
def F_faulted (σ : TS) : Option (Int32 × TS) :=
  nm (tsI σ 2 (tI σ 0)) fun s1 =>
  nm (tsI s1 3 (tI s1 1)) fun s2 =>
  nm (tsI s2 0 0) fun s3 =>
  some ((-5), s3)
def J_feed_72_19 (rec : Int32 → Int32 → Int32 → Int32 → Int32 → Int32 → TS → Option (Unit × TS)) (x1 : Int32) (x2 : Int32) (x3 : Int32) (x4 : Int32) (x5 : Int32) (x6 : Int32) (y0 : Int32) (σ : TS) : Option (Unit × TS) :=
  if inb (tI σ 7) 2000 then
  nm (tsA σ 4 (ix (tI σ 7)) (nB (nB (y0 >>> ((24 - (8 * (x6 - x6 / 4 * 4))) &&& 31))))) fun s2 =>
  nm (tsI s2 7 ((tI s2 7) + 1)) fun s3 =>
  nm (x6 + 1) fun v4 =>
  rec x1 x2 x3 x4 x5 v4 s3
  else none
def L_feed_19 : Nat → Int32 → Int32 → Int32 → Int32 → Int32 → Int32 → TS → Option (Unit × TS)
  | 0, _, _, _, _, _, _, _ => none
  | n + 1, x1, x2, x3, x4, x5, x6, σ =>
    if 20 ≤ x6 then
      some ((), σ)
    else
      if 4 ≤ x6 then
        if 8 ≤ x6 then
          if 12 ≤ x6 then
            if 16 ≤ x6 then
              J_feed_72_19 (L_feed_19 n) x1 x2 x3 x4 x5 x6 x5 σ
            else
              J_feed_72_19 (L_feed_19 n) x1 x2 x3 x4 x5 x6 x4 σ
          else
            J_feed_72_19 (L_feed_19 n) x1 x2 x3 x4 x5 x6 x3 σ
        else
          J_feed_72_19 (L_feed_19 n) x1 x2 x3 x4 x5 x6 x2 σ
      else
        J_feed_72_19 (L_feed_19 n) x1 x2 x3 x4 x5 x6 x1 σ
def F_feed (x1 : Int32) (x2 : Int32) (x3 : Int32) (x4 : Int32) (x5 : Int32) (σ : TS) : Option (Int32 × TS) :=
  if (tI σ 7) + 20 ≤ 2000 then
    ob (L_feed_19 FU x1 x2 x3 x4 x5 0 σ) fun q10 s11 =>
    some (tI s11 7, s11)
  else
    some ((-3), σ)
def J_has_80_21 (cf_has : Int32 → Int64 → Int32 → TS → Option (Int32 × TS)) (rec : Int32 → Int64 → Int32 → Int32 → TS → Option ((Unit ⊕ Int32) × TS)) (x1 : Int32) (x2 : Int64) (x4 : Int32) (x5 : Int32) (σ : TS) : Option ((Unit ⊕ Int32) × TS) :=
  if inb x5 481 then
  if tA σ 57 (ix x5) = 0 then
    nm (x5 + 1) fun v9 =>
    rec x1 x2 x4 v9 σ
  else
    if inb x5 481 then
    ob (F_classOf (tB σ 51 (ix x5)) σ) fun r12 s11 =>
    ob (cf_has r12 x2 (x4 + 1) s11) fun r16 s15 =>
    if r16 = 0 then
      nm (x5 + 1) fun v19 =>
      rec x1 x2 x4 v19 s15
    else
      some (.inr 1, s15)
    else none
  else none
def L_has_21 (cf_has : Int32 → Int64 → Int32 → TS → Option (Int32 × TS)) : Nat → Int32 → Int64 → Int32 → Int32 → TS → Option ((Unit ⊕ Int32) × TS)
  | 0, _, _, _, _, _ => none
  | n + 1, x1, x2, x4, x5, σ =>
    if inb x1 24 then
    if inb x1 24 then
    if (tA σ 45 (ix x1)) + (tA σ 46 (ix x1)) ≤ x5 then
      some (.inl (), σ)
    else
      if inb x5 481 then
      if tA σ 57 (ix x5) = 0 then
        if inb x5 481 then
        if lg_cmp (tB σ 50 (ix x5)) x2 = 0 then
          if inb x5 481 then
          if (tA σ 52 (ix x5)) &&& 16 = 0 then
            some (.inr 1, σ)
          else
            some (.inr 0, σ)
          else none
        else
          J_has_80_21 cf_has (L_has_21 cf_has n) x1 x2 x4 x5 σ
        else none
      else
        J_has_80_21 cf_has (L_has_21 cf_has n) x1 x2 x4 x5 σ
      else none
    else none
    else none
def B_has (cf_has : Int32 → Int64 → Int32 → TS → Option (Int32 × TS)) (x1 : Int32) (x2 : Int64) (x4 : Int32) (σ : TS) : Option (Int32 × TS) :=
  if x1 < 0 then
    some (0, σ)
  else
    if x4 ≤ 14 then
      if inb x1 24 then
      nm (tA σ 45 (ix x1)) fun v2 =>
      obS (L_has_21 cf_has FU x1 x2 x4 v2 σ) (fun r32 s29 => some (r32, s29)) fun q28 s29 =>
      some (0, s29)
      else none
    else
      some (0, σ)
def G_has : Nat → (Int32 → Int64 → Int32 → TS → Option (Int32 × TS))
  | 0 => (fun _ _ _ _ => none)
  | d + 1 => (B_has (G_has d))
def F_has : Int32 → Int64 → Int32 → TS → Option (Int32 × TS) := (G_has 300)
def L_isMeant_8 : Nat → Int32 → Int64 → Int32 → Int32 → TS → Option ((Unit ⊕ Int32) × TS)
  | 0, _, _, _, _, _ => none
  | n + 1, x1, x2, x4, x5, σ =>
    if inb x1 200 then
    if inb x1 200 then
    if (tA σ 78 (ix x1)) + (tA σ 79 (ix x1)) ≤ x5 then
      some (.inl (), σ)
    else
      if x4 = 0 then
        if inb x5 40000 then
        if tA σ 91 (ix x5) ≤ 0 then
          nm (x5 + 1) fun v6 =>
          L_isMeant_8 n x1 x2 x4 v6 σ
        else
          if inb x5 40000 then
          if inb (tA σ 91 (ix x5)) 7000 then
          if lg_cmp (tB σ 29 (ix (tA σ 91 (ix x5)))) x2 = 0 then
            some (.inr 1, σ)
          else
            nm (x5 + 1) fun v9 =>
            L_isMeant_8 n x1 x2 x4 v9 σ
          else none
          else none
        else none
      else
        if inb x5 40000 then
        if 0 ≤ tA σ 91 (ix x5) then
          nm (x5 + 1) fun v13 =>
          L_isMeant_8 n x1 x2 x4 v13 σ
        else
          if inb x5 40000 then
          if inb (tA σ 90 (ix x5)) 2500 then
          if lg_cmp (tB σ 63 (ix (tA σ 90 (ix x5)))) x2 = 0 then
            some (.inr 1, σ)
          else
            nm (x5 + 1) fun v16 =>
            L_isMeant_8 n x1 x2 x4 v16 σ
          else none
          else none
        else none
    else none
    else none
def L_isMeant_120 : Nat → Int64 → Int32 → Int32 → Int32 → TS → Option ((Unit ⊕ Int32) × TS)
  | 0, _, _, _, _, _ => none
  | n + 1, x2, x4, x5, x6, σ =>
    if x6 = 0 then
      some (.inl (), σ)
    else
      if inb x6 2500 then
      if tA σ 62 (ix x6) = x4 then
        if x4 = 0 then
          if inb x6 2500 then
          if inb (tA σ 59 (ix x6)) 7000 then
          if lg_cmp (tB σ 29 (ix (tA σ 59 (ix x6)))) x2 = 0 then
            some (.inr 1, σ)
          else
            if inb x6 2500 then
            nm (tA σ 61 (ix x6)) fun v34 =>
            L_isMeant_120 n x2 x4 x5 v34 σ
            else none
          else none
          else none
        else
          if inb x6 2500 then
          if lg_cmp (tB σ 63 (ix x6)) x2 = 0 then
            some (.inr 1, σ)
          else
            if inb x6 2500 then
            nm (tA σ 61 (ix x6)) fun v38 =>
            L_isMeant_120 n x2 x4 x5 v38 σ
            else none
          else none
      else
        if inb x6 2500 then
        nm (tA σ 61 (ix x6)) fun v30 =>
        L_isMeant_120 n x2 x4 x5 v30 σ
        else none
      else none
def L_isMeant_102 : Nat → Int64 → Int32 → Int32 → TS → Option ((Unit ⊕ Int32) × TS)
  | 0, _, _, _, _ => none
  | n + 1, x2, x4, x5, σ =>
    if tI σ 114 ≤ x5 then
      some (.inl (), σ)
    else
      if inb x5 200 then
      nm (tA σ 112 (ix x5)) fun v26 =>
      obS (L_isMeant_120 FU x2 x4 x5 v26 σ) (fun r48 s44 => some (.inr r48, s44)) fun q43 s44 =>
      nm (x5 + 1) fun v46 =>
      L_isMeant_102 n x2 x4 v46 s44
      else none
def F_isMeant (x1 : Int32) (x2 : Int64) (x4 : Int32) (σ : TS) : Option (Int32 × TS) :=
  if inb x1 200 then
  nm (tA σ 78 (ix x1)) fun v2 =>
  obS (L_isMeant_8 FU x1 x2 x4 v2 σ) (fun r56 s22 => some (r56, s22)) fun q21 s22 =>
  nm (tI s22 113) fun v24 =>
  obS (L_isMeant_102 FU x2 x4 v24 s22) (fun r54 s51 => some (r54, s51)) fun q50 s51 =>
  some (0, s51)
  else none
def J_put_19 (x1 : Int32) (x2 : Int32) (x3 : Int32) (σ : TS) : Option (Unit × TS) :=
  if inb (tI σ 93) 40000 then
  nm (tsA σ 90 (ix (tI σ 93)) x1) fun s2 =>
  if inb (tI s2 93) 40000 then
  nm (tsA s2 91 (ix (tI s2 93)) x2) fun s4 =>
  if inb (tI s4 93) 40000 then
  nm (tsA s4 92 (ix (tI s4 93)) x3) fun s6 =>
  nm (tsI s6 93 ((tI s6 93) + 1)) fun s7 =>
  some ((), s7)
  else none
  else none
  else none
def F_put (x1 : Int32) (x2 : Int32) (x3 : Int32) (σ : TS) : Option (Unit × TS) :=
  if tI σ 93 = 40000 then
    nm (tsI σ 93 ((tI σ 93) - 1)) fun s8 =>
    J_put_19 x1 x2 x3 s8
  else
    J_put_19 x1 x2 x3 σ
def L_inherit_3 : Nat → Int32 → Int32 → Int64 → Int32 → TS → Option (Unit × TS)
  | 0, _, _, _, _, _ => none
  | n + 1, x1, x2, x3, x5, σ =>
    if x1 + x2 ≤ x5 then
      some ((), σ)
    else
      if inb x5 40000 then
      if tA σ 91 (ix x5) ≤ 0 then
        nm (x5 + 1) fun v2 =>
        L_inherit_3 n x1 x2 x3 v2 σ
      else
        if inb x5 40000 then
        if inb (tA σ 91 (ix x5)) 7000 then
        if lg_cmp (tB σ 29 (ix (tA σ 91 (ix x5)))) x3 = 0 then
          if inb x5 40000 then
          if inb x5 40000 then
          if inb (tA σ 91 (ix x5)) 7000 then
          if inb x5 40000 then
          ob (F_put (tA σ 90 (ix x5)) (tA σ 33 (ix (tA σ 91 (ix x5)))) (tA σ 92 (ix x5)) σ) fun r10 s9 =>
          nm (x5 + 1) fun v13 =>
          L_inherit_3 n x1 x2 x3 v13 s9
          else none
          else none
          else none
          else none
        else
          nm (x5 + 1) fun v14 =>
          L_inherit_3 n x1 x2 x3 v14 σ
        else none
        else none
      else none
def F_inherit (x1 : Int32) (x2 : Int32) (x3 : Int64) (σ : TS) : Option (Unit × TS) :=
  ob (L_inherit_3 FU x1 x2 x3 x1 σ) fun q18 s19 =>
  some ((), s19)
def L_makeVariable_4 : Nat → Int32 → Int32 → Int32 → Int32 → Int32 → TS → Option (Unit × TS)
  | 0, _, _, _, _, _, _ => none
  | n + 1, x1, x2, x3, x4, x5, σ =>
    if tI σ 93 ≤ x5 then
      some ((), σ)
    else
      ob (F_isBad σ) fun r2 s1 =>
      if r2 = 0 then
        if inb x5 40000 then
        if tA s1 91 (ix x5) ≤ 0 then
          nm (x5 + 1) fun v6 =>
          L_makeVariable_4 n x1 x2 x3 x4 v6 s1
        else
          if inb x5 40000 then
          if inb (tA s1 91 (ix x5)) 7000 then
          if lg_cmp (tB s1 29 (ix (tA s1 91 (ix x5)))) 495873782388 = 0 then
            if inb x5 40000 then
            if inb (tA s1 91 (ix x5)) 7000 then
            if tA s1 33 (ix (tA s1 91 (ix x5))) = 0 then
              nm (x5 + 1) fun v16 =>
              L_makeVariable_4 n x1 x2 x3 x4 v16 s1
            else
              ob (F_bad 21 0 s1) fun r18 s17 =>
              nm (x5 + 1) fun v21 =>
              L_makeVariable_4 n x1 x2 x3 x4 v21 s17
            else none
            else none
          else
            ob (F_bad 21 0 s1) fun r10 s9 =>
            nm (x5 + 1) fun v13 =>
            L_makeVariable_4 n x1 x2 x3 x4 v13 s9
          else none
          else none
        else none
      else
        some ((), s1)
def L_makeVariable_85 : Nat → Int32 → Int32 → Int32 → Int32 → Int32 → TS → Option (Unit × TS)
  | 0, _, _, _, _, _, _ => none
  | n + 1, x1, x2, x3, x4, x5, σ =>
    if x5 = 0 then
      some ((), σ)
    else
      ob (F_isBad σ) fun r33 s32 =>
      if r33 = 0 then
        if inb x5 2500 then
        if tA s32 62 (ix x5) = 0 then
          if inb x5 2500 then
          if inb (tA s32 59 (ix x5)) 7000 then
          if lg_cmp (tB s32 29 (ix (tA s32 59 (ix x5)))) 495873782388 = 0 then
            if inb x5 2500 then
            nm (tA s32 61 (ix x5)) fun v47 =>
            L_makeVariable_85 n x1 x2 x3 x4 v47 s32
            else none
          else
            ob (F_bad 21 0 s32) fun r49 s48 =>
            if inb x5 2500 then
            nm (tA s48 61 (ix x5)) fun v53 =>
            L_makeVariable_85 n x1 x2 x3 x4 v53 s48
            else none
          else none
          else none
        else
          ob (F_bad 21 0 s32) fun r39 s38 =>
          if inb x5 2500 then
          nm (tA s38 61 (ix x5)) fun v43 =>
          L_makeVariable_85 n x1 x2 x3 x4 v43 s38
          else none
        else none
      else
        some ((), s32)
def L_makeVariable_345 : Nat → Int32 → Int32 → Int32 → Int32 → Int32 → Int32 → TS → Option (Unit × TS)
  | 0, _, _, _, _, _, _, _ => none
  | n + 1, x1, x2, x4, x5, x7, x8, σ =>
    if tI σ 93 ≤ x8 then
      some ((), σ)
    else
      if x7 = 0 then
        if inb x8 40000 then
        if tA σ 91 (ix x8) = 0 then
          if inb x8 40000 then
          if inb (tA σ 90 (ix x8)) 2500 then
          if inb x5 96 then
          nm (tsA σ 100 (ix x5) (tA σ 60 (ix (tA σ 90 (ix x8))))) fun s100 =>
          if inb x8 40000 then
          if inb x5 96 then
          nm (tsA s100 101 (ix x5) (tA s100 92 (ix x8))) fun s103 =>
          nm (x8 + 1) fun v104 =>
          L_makeVariable_345 n x1 x2 x4 x5 1 v104 s103
          else none
          else none
          else none
          else none
          else none
        else
          nm (x8 + 1) fun v105 =>
          L_makeVariable_345 n x1 x2 x4 x5 x7 v105 σ
        else none
      else
        some ((), σ)
def L_makeVariable_418 : Nat → Int32 → Int32 → Int32 → Int32 → Int32 → TS → Option ((Unit ⊕ Unit) × TS)
  | 0, _, _, _, _, _, _ => none
  | n + 1, x1, x2, x4, x5, x8, σ =>
    if tI σ 93 ≤ x8 then
      some (.inl (), σ)
    else
      if inb x8 40000 then
      if 0 < tA σ 91 (ix x8) then
        if inb x8 40000 then
        if inb (tA σ 91 (ix x8)) 7000 then
        if lg_cmp (tB σ 29 (ix (tA σ 91 (ix x8)))) 495873782388 = 0 then
          if inb x8 40000 then
          if inb (tA σ 91 (ix x8)) 7000 then
          if tA σ 33 (ix (tA σ 91 (ix x8))) = 0 then
            if inb x5 96 then
            if tA σ 102 (ix x5) = 0 then
              if inb x8 40000 then
              if inb (tA σ 90 (ix x8)) 2500 then
              if inb x5 96 then
              nm (tsA σ 102 (ix x5) (tA σ 60 (ix (tA σ 90 (ix x8))))) fun s125 =>
              if inb x8 40000 then
              if inb x5 96 then
              nm (tsA s125 103 (ix x5) (tA s125 92 (ix x8))) fun s128 =>
              nm (x8 + 1) fun v129 =>
              L_makeVariable_418 n x1 x2 x4 x5 v129 s128
              else none
              else none
              else none
              else none
              else none
            else
              nm (x8 + 1) fun v130 =>
              L_makeVariable_418 n x1 x2 x4 x5 v130 σ
            else none
          else
            ob (F_bad 21 0 σ) fun r133 s132 =>
            some (.inr (), s132)
          else none
          else none
        else
          ob (F_bad 21 0 σ) fun r116 s115 =>
          some (.inr (), s115)
        else none
        else none
      else
        nm (x8 + 1) fun v138 =>
        L_makeVariable_418 n x1 x2 x4 x5 v138 σ
      else none
def L_makeVariable_548 : Nat → Int32 → Int32 → Int32 → TS → Option (Unit × TS)
  | 0, _, _, _, _ => none
  | n + 1, x1, x5, x8, σ =>
    if x8 = 0 then
      some ((), σ)
    else
      ob (F_isBad σ) fun r148 s147 =>
      if r148 = 0 then
        if inb x8 2500 then
        if tA s147 62 (ix x8) = 0 then
          if inb x8 2500 then
          if inb (tA s147 59 (ix x8)) 7000 then
          if lg_cmp (tB s147 29 (ix (tA s147 59 (ix x8)))) 495873782388 = 0 then
            if inb x5 96 then
            if tA s147 102 (ix x5) = 0 then
              if inb x8 2500 then
              if inb x5 96 then
              nm (tsA s147 102 (ix x5) (tA s147 60 (ix x8))) fun s166 =>
              if inb x5 96 then
              nm (tsA s166 103 (ix x5) x1) fun s168 =>
              if inb x8 2500 then
              nm (tA s168 61 (ix x8)) fun v170 =>
              L_makeVariable_548 n x1 x5 v170 s168
              else none
              else none
              else none
              else none
            else
              if inb x8 2500 then
              nm (tA s147 61 (ix x8)) fun v163 =>
              L_makeVariable_548 n x1 x5 v163 s147
              else none
            else none
          else
            ob (F_bad 21 0 s147) fun r173 s172 =>
            if inb x8 2500 then
            nm (tA s172 61 (ix x8)) fun v177 =>
            L_makeVariable_548 n x1 x5 v177 s172
            else none
          else none
          else none
        else
          ob (F_bad 21 0 s147) fun r154 s153 =>
          if inb x8 2500 then
          nm (tA s153 61 (ix x8)) fun v158 =>
          L_makeVariable_548 n x1 x5 v158 s153
          else none
        else none
      else
        some ((), s147)
def J_makeVariable_414 (x1 : Int32) (x2 : Int32) (x4 : Int32) (x5 : Int32) (σ : TS) : Option (Unit × TS) :=
  obS (L_makeVariable_418 FU x1 x2 x4 x5 x4 σ) (fun r187 s142 => some (r187, s142)) fun q141 s142 =>
  nm (tsI s142 93 x4) fun s144 =>
  if inb x2 481 then
  nm (tA s144 55 (ix x2)) fun v146 =>
  ob (L_makeVariable_548 FU x1 x5 v146 s144) fun q182 s183 =>
  some ((), s183)
  else none
def J_makeVariable_300 (x1 : Int32) (x2 : Int32) (x4 : Int32) (x5 : Int32) (y1 : Int32) (y2 : Int32) (σ : TS) : Option (Unit × TS) :=
  if inb y1 96 then
  nm (tsA σ 98 (ix y1) y2) fun s86 =>
  if inb x2 481 then
  if inb x5 96 then
  nm (tsA s86 100 (ix x5) (tA s86 56 (ix x2))) fun s89 =>
  if inb x5 96 then
  nm (tsA s89 101 (ix x5) x1) fun s91 =>
  if inb x5 96 then
  nm (tsA s91 102 (ix x5) 0) fun s93 =>
  if inb x5 96 then
  nm (tsA s93 103 (ix x5) x1) fun s95 =>
  ob (L_makeVariable_345 FU x1 x2 x4 x5 0 x4 s95) fun q109 s110 =>
  J_makeVariable_414 x1 x2 x4 x5 s110
  else none
  else none
  else none
  else none
  else none
  else none
def J_makeVariable_248 (x1 : Int32) (x2 : Int32) (x3 : Int32) (x4 : Int32) (x5 : Int32) (y1 : Int32) (y2 : Int32) (σ : TS) : Option (Unit × TS) :=
  if inb y1 96 then
  nm (tsA σ 99 (ix y1) y2) fun s76 =>
  if inb x2 481 then
  if inb x5 96 then
  nm (tsA s76 95 (ix x5) (tA s76 54 (ix x2))) fun s79 =>
  if inb x5 96 then
  nm (tsA s79 96 (ix x5) x1) fun s81 =>
  if inb x5 96 then
  nm (tsA s81 97 (ix x5) x2) fun s83 =>
  if inb x2 481 then
  if tA s83 53 (ix x2) = 0 then
    J_makeVariable_300 x1 x2 x4 x5 x5 0 s83
  else
    J_makeVariable_300 x1 x2 x4 x5 x5 (x3 + 1) s83
  else none
  else none
  else none
  else none
  else none
  else none
def J_makeVariable_229 (x1 : Int32) (x2 : Int32) (x3 : Int32) (x4 : Int32) (x5 : Int32) (x6 : Int32) (y1 : Int32) (y2 : Int32) (σ : TS) : Option (Unit × TS) :=
  if inb y1 96 then
  nm (tsA σ 94 (ix y1) y2) fun s74 =>
  if x6 &&& 2 = 0 then
    J_makeVariable_248 x1 x2 x3 x4 x5 x5 0 s74
  else
    J_makeVariable_248 x1 x2 x3 x4 x5 x5 1 s74
  else none
def J_makeVariable_168 (x1 : Int32) (x2 : Int32) (x3 : Int32) (x4 : Int32) (σ : TS) : Option (Unit × TS) :=
  ob (F_isBad σ) fun r66 s65 =>
  if r66 = 0 then
    nm (tI s65 107) fun v69 =>
    nm (tsI s65 107 ((tI s65 107) + 1)) fun s70 =>
    if inb x2 481 then
    nm (tA s70 52 (ix x2)) fun v72 =>
    if v72 &&& 1 = 0 then
      if v72 &&& 4 = 0 then
        J_makeVariable_229 x1 x2 x3 x4 v69 v72 v69 0 s70
      else
        J_makeVariable_229 x1 x2 x3 x4 v69 v72 v69 2 s70
    else
      J_makeVariable_229 x1 x2 x3 x4 v69 v72 v69 1 s70
    else none
  else
    some ((), s65)
def J_makeVariable_145 (x1 : Int32) (x2 : Int32) (x3 : Int32) (x4 : Int32) (σ : TS) : Option (Unit × TS) :=
  ob (F_isBad σ) fun r62 s61 =>
  if r62 = 0 then
    if tI s61 107 = 96 then
      ob (F_bad 24 0 s61) fun r195 s194 =>
      J_makeVariable_168 x1 x2 x3 x4 s194
    else
      J_makeVariable_168 x1 x2 x3 x4 s61
  else
    J_makeVariable_168 x1 x2 x3 x4 s61
def J_makeVariable_77 (x1 : Int32) (x2 : Int32) (x3 : Int32) (x4 : Int32) (σ : TS) : Option (Unit × TS) :=
  if inb x2 481 then
  nm (tA σ 55 (ix x2)) fun v31 =>
  ob (L_makeVariable_85 FU x1 x2 x3 x4 v31 σ) fun q58 s59 =>
  J_makeVariable_145 x1 x2 x3 x4 s59
  else none
def F_makeVariable (x1 : Int32) (x2 : Int32) (x3 : Int32) (x4 : Int32) (σ : TS) : Option (Unit × TS) :=
  ob (L_makeVariable_4 FU x1 x2 x3 x4 x4 σ) fun q27 s28 =>
  J_makeVariable_77 x1 x2 x3 x4 s28
def F_newInstance (x1 : Int32) (x2 : Int32) (x3 : Int32) (x4 : Int32) (x5 : Int32) (σ : TS) : Option (Int32 × TS) :=
  if tI σ 82 = 200 then
    ob (F_bad 24 0 σ) fun r18 s17 =>
    some (0, s17)
  else
    nm (tI σ 82) fun v1 =>
    nm (tsI σ 82 ((tI σ 82) + 1)) fun s2 =>
    if inb v1 200 then
    nm (tsA s2 75 (ix v1) x1) fun s4 =>
    if inb v1 200 then
    nm (tsA s4 76 (ix v1) x2) fun s6 =>
    if inb v1 200 then
    nm (tsA s6 77 (ix v1) x3) fun s8 =>
    if inb v1 200 then
    nm (tsA s8 74 (ix v1) x4) fun s10 =>
    if inb v1 200 then
    nm (tsA s10 78 (ix v1) x5) fun s12 =>
    if inb v1 200 then
    nm (tsA s12 79 (ix v1) ((tI s12 93) - x5)) fun s14 =>
    if inb v1 200 then
    nm (tsA s14 88 (ix v1) (-1)) fun s16 =>
    some (v1, s16)
    else none
    else none
    else none
    else none
    else none
    else none
    else none
def L_leads_3 : Nat → Int32 → Int32 → Int32 → Int32 → TS → Option (Unit × TS)
  | 0, _, _, _, _, _ => none
  | n + 1, x1, x2, x3, x4, σ =>
    if x1 + x2 ≤ x4 then
      some ((), σ)
    else
      ob (F_isBad σ) fun r2 s1 =>
      if r2 = 0 then
        if inb x4 40000 then
        if tA s1 91 (ix x4) = 0 then
          ob (F_bad 21 0 s1) fun r35 s34 =>
          nm (x4 + 1) fun v38 =>
          L_leads_3 n x1 x2 x3 v38 s34
        else
          if inb x4 40000 then
          if 0 ≤ tA s1 91 (ix x4) then
            if inb x4 40000 then
            if inb (tA s1 91 (ix x4)) 7000 then
            ob (F_has x3 (tB s1 29 (ix (tA s1 91 (ix x4)))) 0 s1) fun r10 s9 =>
            if r10 = 0 then
              ob (F_bad 21 0 s9) fun r15 s14 =>
              nm (x4 + 1) fun v18 =>
              L_leads_3 n x1 x2 x3 v18 s14
            else
              nm (x4 + 1) fun v13 =>
              L_leads_3 n x1 x2 x3 v13 s9
            else none
            else none
          else
            if inb x4 40000 then
            if inb (tA s1 90 (ix x4)) 2500 then
            ob (F_has x3 (tB s1 63 (ix (tA s1 90 (ix x4)))) 0 s1) fun r23 s22 =>
            if r23 = 0 then
              ob (F_bad 21 0 s22) fun r28 s27 =>
              nm (x4 + 1) fun v31 =>
              L_leads_3 n x1 x2 x3 v31 s27
            else
              nm (x4 + 1) fun v26 =>
              L_leads_3 n x1 x2 x3 v26 s22
            else none
            else none
          else none
        else none
      else
        some ((), s1)
def F_leads (x1 : Int32) (x2 : Int32) (x3 : Int32) (σ : TS) : Option (Unit × TS) :=
  ob (L_leads_3 FU x1 x2 x3 x1 σ) fun q42 s43 =>
  some ((), s43)
def L_fill_196 (cf_fill : Int32 → Int32 → Int32 → TS → Option (Unit × TS)) (cf_makeMember : Int32 → Int32 → Int32 → TS → Option (Unit × TS)) : Nat → Int32 → Int32 → Int32 → Int32 → Int32 → Int32 → TS → Option (Unit × TS)
  | 0, _, _, _, _, _, _, _ => none
  | n + 1, x1, x2, x3, x4, x5, x6, σ =>
    if x6 = 0 then
      some ((), σ)
    else
      ob (F_isBad σ) fun r40 s39 =>
      if r40 = 0 then
        if inb x6 2500 then
        if tA s39 62 (ix x6) = 0 then
          if inb x6 2500 then
          if inb (tA s39 59 (ix x6)) 7000 then
          ob (F_has x5 (tB s39 29 (ix (tA s39 59 (ix x6)))) 0 s39) fun r48 s47 =>
          if r48 = 0 then
            ob (F_bad 21 0 s47) fun r54 s53 =>
            if inb x6 2500 then
            nm (tA s53 61 (ix x6)) fun v58 =>
            L_fill_196 cf_fill cf_makeMember n x1 x2 x3 x4 x5 v58 s53
            else none
          else
            if inb x6 2500 then
            nm (tA s47 61 (ix x6)) fun v52 =>
            L_fill_196 cf_fill cf_makeMember n x1 x2 x3 x4 x5 v52 s47
            else none
          else none
          else none
        else
          if inb x6 2500 then
          ob (F_has x5 (tB s39 63 (ix x6)) 0 s39) fun r62 s61 =>
          if r62 = 0 then
            ob (F_bad 21 0 s61) fun r68 s67 =>
            if inb x6 2500 then
            nm (tA s67 61 (ix x6)) fun v72 =>
            L_fill_196 cf_fill cf_makeMember n x1 x2 x3 x4 x5 v72 s67
            else none
          else
            if inb x6 2500 then
            nm (tA s61 61 (ix x6)) fun v66 =>
            L_fill_196 cf_fill cf_makeMember n x1 x2 x3 x4 x5 v66 s61
            else none
          else none
        else none
      else
        some ((), s39)
def L_fill_56 (cf_fill : Int32 → Int32 → Int32 → TS → Option (Unit × TS)) (cf_makeMember : Int32 → Int32 → Int32 → TS → Option (Unit × TS)) : Nat → Int32 → Int32 → Int32 → Int32 → TS → Option ((Unit ⊕ Unit) × TS)
  | 0, _, _, _, _, _ => none
  | n + 1, x1, x2, x3, x4, σ =>
    if inb x2 24 then
    if inb x2 24 then
    if (tA σ 45 (ix x2)) + (tA σ 46 (ix x2)) ≤ x4 then
      some (.inl (), σ)
    else
      ob (F_isBad σ) fun r11 s10 =>
      if r11 = 0 then
        if inb x4 481 then
        if tA s10 57 (ix x4) = 0 then
          ob (cf_makeMember x1 x4 x3 s10) fun r17 s16 =>
          nm (x4 + 1) fun v20 =>
          L_fill_56 cf_fill cf_makeMember n x1 x2 x3 v20 s16
        else
          if inb x4 481 then
          ob (F_classOf (tB s10 51 (ix x4)) s10) fun r23 s22 =>
          if 0 ≤ r23 then
            if inb r23 24 then
            if inb x2 24 then
            if tA s22 44 (ix r23) = tA s22 44 (ix x2) then
              if inb x4 481 then
              if inb (tI s22 114) 200 then
              nm (tsA s22 112 (ix (tI s22 114)) (tA s22 55 (ix x4))) fun s30 =>
              nm (tsI s30 114 ((tI s30 114) + 1)) fun s31 =>
              ob (cf_fill x1 r23 (x3 + 1) s31) fun r33 s32 =>
              nm (tsI s32 114 ((tI s32 114) - 1)) fun s36 =>
              if inb x4 481 then
              nm (tA s36 55 (ix x4)) fun v38 =>
              ob (L_fill_196 cf_fill cf_makeMember FU x1 x2 x3 x4 r23 v38 s36) fun q77 s78 =>
              nm (x4 + 1) fun v80 =>
              L_fill_56 cf_fill cf_makeMember n x1 x2 x3 v80 s78
              else none
              else none
              else none
            else
              ob (F_bad 22 0 s22) fun r83 s82 =>
              some (.inr (), s82)
            else none
            else none
          else
            ob (F_bad 20 0 s22) fun r88 s87 =>
            some (.inr (), s87)
          else none
        else none
      else
        some (.inl (), s10)
    else none
    else none
def J_fill_40 (cf_fill : Int32 → Int32 → Int32 → TS → Option (Unit × TS)) (cf_makeMember : Int32 → Int32 → Int32 → TS → Option (Unit × TS)) (x1 : Int32) (x2 : Int32) (x3 : Int32) (σ : TS) : Option (Unit × TS) :=
  ob (F_isBad σ) fun r3 s2 =>
  if r3 = 0 then
    if inb x2 24 then
    nm (tA s2 45 (ix x2)) fun v7 =>
    obS (L_fill_56 cf_fill cf_makeMember FU x1 x2 x3 v7 s2) (fun r99 s96 => some (r99, s96)) fun q95 s96 =>
    some ((), s96)
    else none
  else
    some ((), s2)
def J_fill_13 (cf_fill : Int32 → Int32 → Int32 → TS → Option (Unit × TS)) (cf_makeMember : Int32 → Int32 → Int32 → TS → Option (Unit × TS)) (x1 : Int32) (x2 : Int32) (x3 : Int32) (σ : TS) : Option (Unit × TS) :=
  nm (tsI σ 132 ((tI σ 132) + 1)) fun s1 =>
  if tI s1 132 ≤ 1000 then
    J_fill_40 cf_fill cf_makeMember x1 x2 x3 s1
  else
    ob (F_bad 24 0 s1) fun r102 s101 =>
    J_fill_40 cf_fill cf_makeMember x1 x2 x3 s101
def B_fill (cf_fill : Int32 → Int32 → Int32 → TS → Option (Unit × TS)) (cf_makeMember : Int32 → Int32 → Int32 → TS → Option (Unit × TS)) (x1 : Int32) (x2 : Int32) (x3 : Int32) (σ : TS) : Option (Unit × TS) :=
  if x3 ≤ 12 then
    J_fill_13 cf_fill cf_makeMember x1 x2 x3 σ
  else
    ob (F_bad 23 0 σ) fun r107 s106 =>
    J_fill_13 cf_fill cf_makeMember x1 x2 x3 s106
def L_makeMember_306 (cf_fill : Int32 → Int32 → Int32 → TS → Option (Unit × TS)) : Nat → Int32 → Int32 → Int32 → Int32 → Int32 → Int32 → Int32 → Int32 → Int32 → Int32 → Int32 → TS → Option (Unit × TS)
  | 0, _, _, _, _, _, _, _, _, _, _, _, _ => none
  | n + 1, x1, x2, x3, x4, x5, x6, x7, x8, x9, x10, x11, σ =>
    if x11 = 0 then
      some ((), σ)
    else
      if inb x11 2500 then
      if tA σ 62 (ix x11) = 0 then
        if inb x11 2500 then
        if inb (tA σ 59 (ix x11)) 7000 then
        if inb x2 481 then
        if lg_cmp (tB σ 29 (ix (tA σ 59 (ix x11)))) (tB σ 50 (ix x2)) = 0 then
          if inb x11 2500 then
          if inb (tA σ 59 (ix x11)) 7000 then
          ob (F_put x11 (tA σ 33 (ix (tA σ 59 (ix x11)))) x1 σ) fun r63 s62 =>
          if inb x11 2500 then
          nm (tA s62 61 (ix x11)) fun v67 =>
          L_makeMember_306 cf_fill n x1 x2 x3 x4 x5 x6 x7 x8 x9 x10 v67 s62
          else none
          else none
          else none
        else
          if inb x11 2500 then
          nm (tA σ 61 (ix x11)) fun v59 =>
          L_makeMember_306 cf_fill n x1 x2 x3 x4 x5 x6 x7 x8 x9 x10 v59 σ
          else none
        else none
        else none
        else none
      else
        if inb x11 2500 then
        nm (tA σ 61 (ix x11)) fun v54 =>
        L_makeMember_306 cf_fill n x1 x2 x3 x4 x5 x6 x7 x8 x9 x10 v54 σ
        else none
      else none
def L_makeMember_288 (cf_fill : Int32 → Int32 → Int32 → TS → Option (Unit × TS)) : Nat → Int32 → Int32 → Int32 → Int32 → Int32 → Int32 → Int32 → Int32 → Int32 → Int32 → TS → Option (Unit × TS)
  | 0, _, _, _, _, _, _, _, _, _, _, _ => none
  | n + 1, x1, x2, x3, x4, x5, x6, x7, x8, x9, x10, σ =>
    if tI σ 114 ≤ x10 then
      some ((), σ)
    else
      if inb x10 200 then
      nm (tA σ 112 (ix x10)) fun v50 =>
      ob (L_makeMember_306 cf_fill FU x1 x2 x3 x4 x5 x6 x7 x8 x9 x10 v50 σ) fun q71 s72 =>
      nm (x10 + 1) fun v74 =>
      L_makeMember_288 cf_fill n x1 x2 x3 x4 x5 x6 x7 x8 x9 v74 s72
      else none
def L_makeMember_406 (cf_fill : Int32 → Int32 → Int32 → TS → Option (Unit × TS)) : Nat → Int32 → Int32 → Int32 → Int32 → Int32 → Int32 → Int32 → Int32 → Int32 → Int32 → TS → Option (Unit × TS)
  | 0, _, _, _, _, _, _, _, _, _, _, _ => none
  | n + 1, x1, x2, x3, x4, x5, x6, x7, x8, x9, x10, σ =>
    if x10 = 0 then
      some ((), σ)
    else
      if inb x10 2500 then
      if tA σ 62 (ix x10) = 0 then
        if inb x10 2500 then
        ob (F_put x10 (tA σ 59 (ix x10)) x1 σ) fun r86 s85 =>
        if inb x10 2500 then
        nm (tA s85 61 (ix x10)) fun v90 =>
        L_makeMember_406 cf_fill n x1 x2 x3 x4 x5 x6 x7 x8 x9 v90 s85
        else none
        else none
      else
        ob (F_put x10 (-1) x1 σ) fun r92 s91 =>
        if inb x10 2500 then
        nm (tA s91 61 (ix x10)) fun v96 =>
        L_makeMember_406 cf_fill n x1 x2 x3 x4 x5 x6 x7 x8 x9 v96 s91
        else none
      else none
def J_makeMember_515_240 (cf_fill : Int32 → Int32 → Int32 → TS → Option (Unit × TS)) (rec : Int32 → Int32 → Int32 → Int32 → Int32 → Int32 → Int32 → Int32 → TS → Option ((Unit ⊕ Unit) × TS)) (x1 : Int32) (x2 : Int32) (x3 : Int32) (x4 : Int32) (x5 : Int32) (x6 : Int32) (x7 : Int32) (x8 : Int32) (x9 : Int32) (x10 : Int32) (σ : TS) : Option ((Unit ⊕ Unit) × TS) :=
  ob (F_isBad σ) fun r112 s111 =>
  if r112 = 0 then
    nm (tI s111 113) fun v115 =>
    nm (tsI s111 113 (tI s111 114)) fun s116 =>
    ob (cf_fill x10 x7 (x3 + 1) s116) fun r118 s117 =>
    nm (tsI s117 113 v115) fun s121 =>
    ob (F_isBad s121) fun r123 s122 =>
    if r123 = 0 then
      if inb x10 200 then
      ob (F_leads x9 (tA s122 79 (ix x10)) x7 s122) fun r130 s129 =>
      nm (tsI s129 93 x9) fun s133 =>
      nm (x8 + 1) fun v134 =>
      rec x1 x2 x3 x4 x5 x6 x7 v134 s133
      else none
    else
      nm (tsI s122 93 x9) fun s126 =>
      nm (x8 + 1) fun v127 =>
      rec x1 x2 x3 x4 x5 x6 x7 v127 s126
  else
    some (.inr (), s111)
def J_makeMember_492_240 (cf_fill : Int32 → Int32 → Int32 → TS → Option (Unit × TS)) (rec : Int32 → Int32 → Int32 → Int32 → Int32 → Int32 → Int32 → Int32 → TS → Option ((Unit ⊕ Unit) × TS)) (x1 : Int32) (x2 : Int32) (x3 : Int32) (x4 : Int32) (x5 : Int32) (x6 : Int32) (x7 : Int32) (x8 : Int32) (x9 : Int32) (y1 : Int32) (y2 : Int32) (y3 : Int32) (σ : TS) : Option ((Unit ⊕ Unit) × TS) :=
  ob (F_newInstance y1 y2 y3 x7 x9 σ) fun r108 s107 =>
  if x8 = 0 then
    if inb x4 96001 then
    nm (tsA s107 85 (ix x4) r108) fun s138 =>
    J_makeMember_515_240 cf_fill rec x1 x2 x3 x4 x5 x6 x7 x8 x9 r108 s138
    else none
  else
    J_makeMember_515_240 cf_fill rec x1 x2 x3 x4 x5 x6 x7 x8 x9 r108 s107
def J_makeMember_464_240 (cf_fill : Int32 → Int32 → Int32 → TS → Option (Unit × TS)) (rec : Int32 → Int32 → Int32 → Int32 → Int32 → Int32 → Int32 → Int32 → TS → Option ((Unit ⊕ Unit) × TS)) (x1 : Int32) (x2 : Int32) (x3 : Int32) (x4 : Int32) (x5 : Int32) (x6 : Int32) (x7 : Int32) (x8 : Int32) (x9 : Int32) (σ : TS) : Option ((Unit ⊕ Unit) × TS) :=
  ob (F_isBad σ) fun r103 s102 =>
  if r103 = 0 then
    if inb x2 481 then
    if tA s102 53 (ix x2) = 0 then
      J_makeMember_492_240 cf_fill rec x1 x2 x3 x4 x5 x6 x7 x8 x9 x1 x2 0 s102
    else
      J_makeMember_492_240 cf_fill rec x1 x2 x3 x4 x5 x6 x7 x8 x9 x1 x2 (x8 + 1) s102
    else none
  else
    some (.inr (), s102)
def L_makeMember_240 (cf_fill : Int32 → Int32 → Int32 → TS → Option (Unit × TS)) : Nat → Int32 → Int32 → Int32 → Int32 → Int32 → Int32 → Int32 → Int32 → TS → Option ((Unit ⊕ Unit) × TS)
  | 0, _, _, _, _, _, _, _, _, _ => none
  | n + 1, x1, x2, x3, x4, x5, x6, x7, x8, σ =>
    if x6 ≤ x8 then
      some (.inl (), σ)
    else
      ob (F_isBad σ) fun r37 s36 =>
      if r37 = 0 then
        nm (tI s36 93) fun v40 =>
        if inb x1 200 then
        if inb x1 200 then
        if inb x2 481 then
        ob (F_inherit (tA s36 78 (ix x1)) (tA s36 79 (ix x1)) (tB s36 50 (ix x2)) s36) fun r45 s44 =>
        nm (tI s44 113) fun v48 =>
        ob (L_makeMember_288 cf_fill FU x1 x2 x3 x4 x5 x6 x7 x8 v40 v48 s44) fun q77 s78 =>
        if x5 = 0 then
          if inb x2 481 then
          nm (tA s78 55 (ix x2)) fun v81 =>
          ob (L_makeMember_406 cf_fill FU x1 x2 x3 x4 x5 x6 x7 x8 v40 v81 s78) fun q99 s100 =>
          if x3 < 12 then
            J_makeMember_464_240 cf_fill (L_makeMember_240 cf_fill n) x1 x2 x3 x4 x5 x6 x7 x8 v40 s100
          else
            ob (F_bad 23 0 s100) fun r143 s142 =>
            J_makeMember_464_240 cf_fill (L_makeMember_240 cf_fill n) x1 x2 x3 x4 x5 x6 x7 x8 v40 s142
          else none
        else
          ob (F_makeVariable x1 x2 x8 v40 s78) fun r149 s148 =>
          nm (x8 + 1) fun v152 =>
          L_makeMember_240 cf_fill n x1 x2 x3 x4 x5 x6 x7 v152 s148
        else none
        else none
        else none
      else
        some (.inl (), s36)
def J_makeMember_236 (cf_fill : Int32 → Int32 → Int32 → TS → Option (Unit × TS)) (x1 : Int32) (x2 : Int32) (x3 : Int32) (x4 : Int32) (x5 : Int32) (x6 : Int32) (x7 : Int32) (y1 : Int32) (y2 : Int32) (σ : TS) : Option (Unit × TS) :=
  if inb y1 96001 then
  nm (tsA σ 85 (ix y1) y2) fun s35 =>
  obS (L_makeMember_240 cf_fill FU x1 x2 x3 x4 x5 x6 x7 0 s35) (fun r161 s158 => some (r161, s158)) fun q157 s158 =>
  some ((), s158)
  else none
def J_makeMember_197 (cf_fill : Int32 → Int32 → Int32 → TS → Option (Unit × TS)) (x1 : Int32) (x2 : Int32) (x3 : Int32) (x4 : Int32) (x5 : Int32) (x6 : Int32) (x7 : Int32) (σ : TS) : Option (Unit × TS) :=
  ob (F_isBad σ) fun r29 s28 =>
  if r29 = 0 then
    if inb x4 96001 then
    nm (tsA s28 86 (ix x4) x7) fun s33 =>
    if x5 = 0 then
      J_makeMember_236 cf_fill x1 x2 x3 x4 x5 x6 x7 x4 (tI s33 82) s33
    else
      J_makeMember_236 cf_fill x1 x2 x3 x4 x5 x6 x7 x4 (tI s33 107) s33
    else none
  else
    some ((), s28)
def J_makeMember_168 (cf_fill : Int32 → Int32 → Int32 → TS → Option (Unit × TS)) (x1 : Int32) (x2 : Int32) (x3 : Int32) (x4 : Int32) (x5 : Int32) (x6 : Int32) (y0 : Int32) (σ : TS) : Option (Unit × TS) :=
  if x5 = 0 then
    J_makeMember_197 cf_fill x1 x2 x3 x4 x5 x6 y0 σ
  else
    if inb x2 481 then
    ob (F_isMeant x1 (tB σ 50 (ix x2)) 1 σ) fun r166 s165 =>
    if r166 = 0 then
      J_makeMember_197 cf_fill x1 x2 x3 x4 x5 x6 y0 s165
    else
      ob (F_bad 22 0 s165) fun r170 s169 =>
      J_makeMember_197 cf_fill x1 x2 x3 x4 x5 x6 y0 s169
    else none
def J_makeMember_150 (cf_fill : Int32 → Int32 → Int32 → TS → Option (Unit × TS)) (x1 : Int32) (x2 : Int32) (x3 : Int32) (x4 : Int32) (x5 : Int32) (y0 : Int32) (σ : TS) : Option (Unit × TS) :=
  if x5 = 0 then
    ob (F_classFor x2 x1 0 σ) fun r25 s24 =>
    J_makeMember_168 cf_fill x1 x2 x3 x4 x5 y0 r25 s24
  else
    J_makeMember_168 cf_fill x1 x2 x3 x4 x5 y0 (-1) σ
def J_makeMember_116 (cf_fill : Int32 → Int32 → Int32 → TS → Option (Unit × TS)) (x1 : Int32) (x2 : Int32) (x3 : Int32) (x4 : Int32) (y0 : Int32) (σ : TS) : Option (Unit × TS) :=
  if inb x2 481 then
  if (tA σ 52 (ix x2)) &&& 16 = 0 then
    if inb x2 481 then
    if tA σ 53 (ix x2) = 0 then
      J_makeMember_150 cf_fill x1 x2 x3 x4 y0 1 σ
    else
      if inb x2 481 then
      J_makeMember_150 cf_fill x1 x2 x3 x4 y0 (tA σ 53 (ix x2)) σ
      else none
    else none
  else
    some ((), σ)
  else none
def J_makeMember_47 (cf_fill : Int32 → Int32 → Int32 → TS → Option (Unit × TS)) (x1 : Int32) (x2 : Int32) (x3 : Int32) (x4 : Int32) (σ : TS) : Option (Unit × TS) :=
  if inb x4 96001 then
  nm (tsA σ 83 (ix x4) x1) fun s8 =>
  if inb x1 200 then
  if inb x4 96001 then
  nm (tsA s8 87 (ix x4) (tA s8 88 (ix x1))) fun s11 =>
  if inb x1 200 then
  nm (tsA s11 88 (ix x1) x4) fun s13 =>
  if inb x4 96001 then
  nm (tsA s13 84 (ix x4) x2) fun s15 =>
  if inb x4 96001 then
  nm (tsA s15 85 (ix x4) (-1)) fun s17 =>
  if inb x4 96001 then
  nm (tsA s17 86 (ix x4) (-1)) fun s19 =>
  if inb x2 481 then
  if lg_cmp (tB s19 51 (ix x2)) 0 = 0 then
    J_makeMember_116 cf_fill x1 x2 x3 x4 1 s19
  else
    J_makeMember_116 cf_fill x1 x2 x3 x4 0 s19
  else none
  else none
  else none
  else none
  else none
  else none
  else none
  else none
def B_makeMember (cf_fill : Int32 → Int32 → Int32 → TS → Option (Unit × TS)) (x1 : Int32) (x2 : Int32) (x3 : Int32) (σ : TS) : Option (Unit × TS) :=
  if inb x2 481 then
  ob (F_memberOf x1 (tB σ 50 (ix x2)) σ) fun r3 s2 =>
  if r3 < 0 then
    nm (tI s2 89) fun v6 =>
    if 96000 ≤ tI s2 89 then
      J_makeMember_47 cf_fill x1 x2 x3 v6 s2
    else
      nm (tsI s2 89 ((tI s2 89) + 1)) fun s179 =>
      J_makeMember_47 cf_fill x1 x2 x3 v6 s179
  else
    ob (F_bad 3 0 s2) fun r182 s181 =>
    some ((), s181)
  else none
def G_fill : Nat → (Int32 → Int32 → Int32 → TS → Option (Unit × TS)) × (Int32 → Int32 → Int32 → TS → Option (Unit × TS))
  | 0 => (fun _ _ _ _ => none, fun _ _ _ _ => none)
  | d + 1 => (B_fill (G_fill d).1 (G_fill d).2, B_makeMember (G_fill d).1)
def F_fill : Int32 → Int32 → Int32 → TS → Option (Unit × TS) := (G_fill 100).1
def F_makeMember : Int32 → Int32 → Int32 → TS → Option (Unit × TS) := (G_fill 100).2
def L_takeTape_10 : Nat → Int32 → TS → Option (Unit × TS)
  | 0, _, _ => none
  | n + 1, x1, σ =>
    if tI σ 8 ≤ x1 then
      some ((), σ)
    else
      if inb x1 2000 then
      if inb x1 2000 then
      nm (tsA σ 5 (ix x1) (nB (tA σ 4 (ix x1)))) fun s4 =>
      nm (x1 + 1) fun v5 =>
      L_takeTape_10 n v5 s4
      else none
      else none
def F_takeTape (σ : TS) : Option (Unit × TS) :=
  nm (tsI σ 8 (tI σ 7)) fun s1 =>
  ob (L_takeTape_10 FU 0 s1) fun q7 s8 =>
  nm (tsI s8 7 0) fun s10 =>
  some ((), s10)
def F_letter (x1 : Int32) (σ : TS) : Option (Unit × TS) :=
  if 500 ≤ tI σ 9 then
    some ((), σ)
  else
    if inb (tI σ 9) 2200 then
    nm (tsA σ 6 (ix (tI σ 9)) (nB (nB (x1)))) fun s2 =>
    nm (tsI s2 9 ((tI s2 9) + 1)) fun s3 =>
    some ((), s3)
    else none
def L_printName_3 : Nat → Int64 → Int32 → TS → Option (Unit × TS)
  | 0, _, _, _ => none
  | n + 1, x1, x3, σ =>
    if x3 < 0 then
      some ((), σ)
    else
      if lg_cmp ((x1 >>> ((x3).toInt64 &&& 63)) &&& 255) 0 = 0 then
        nm (x3 + (-8)) fun v1 =>
        L_printName_3 n x1 v1 σ
      else
        ob (F_letter (((x1 >>> ((x3).toInt64 &&& 63)) &&& 255).toInt32) σ) fun r3 s2 =>
        nm (x3 + (-8)) fun v6 =>
        L_printName_3 n x1 v6 s2
def F_printName (x1 : Int64) (σ : TS) : Option (Unit × TS) :=
  ob (L_printName_3 FU x1 56 σ) fun q9 s10 =>
  some ((), s10)
def L_printNumber_26 : Nat → Int64 → Int64 → TS → Option (Int64 × TS)
  | 0, _, _, _ => none
  | n + 1, x2, x4, σ =>
    if ¬ x4 = 0 then
    if lg_cmp (x2 / x4) 9 ≤ 0 then
      some (x4, σ)
    else
      nm (x4 * 10) fun v2 =>
      L_printNumber_26 n x2 v2 σ
    else none
def L_printNumber_48 : Nat → Int64 → Int64 → TS → Option (Unit × TS)
  | 0, _, _, _ => none
  | n + 1, x2, x4, σ =>
    if lg_cmp x4 0 ≤ 0 then
      some ((), σ)
    else
      if ¬ x4 = 0 then
      ob (F_letter ((((x2 / x4) - (x2 / x4) / 10 * 10).toInt32) + 48) σ) fun r9 s8 =>
      nm (x4 / 10) fun v12 =>
      L_printNumber_48 n x2 v12 s8
      else none
def J_printNumber_22 (y0 : Int64) (σ : TS) : Option (Unit × TS) :=
  ob (L_printNumber_26 FU y0 1 σ) fun q4 s5 =>
  ob (L_printNumber_48 FU y0 q4 s5) fun q14 s15 =>
  some ((), s15)
def J_printNumber_10 (x1 : Int32) (σ : TS) : Option (Unit × TS) :=
  if 0 ≤ x1 then
    J_printNumber_22 ((x1).toInt64) σ
  else
    J_printNumber_22 (-((x1).toInt64)) σ
def F_printNumber (x1 : Int32) (σ : TS) : Option (Unit × TS) :=
  if 0 ≤ x1 then
    J_printNumber_10 x1 σ
  else
    ob (F_letter 45 σ) fun r21 s20 =>
    J_printNumber_10 x1 s20
def F_printIndex (x1 : Int32) (σ : TS) : Option (Unit × TS) :=
  if x1 = 0 then
    some ((), σ)
  else
    ob (F_letter 91 σ) fun r2 s1 =>
    ob (F_printNumber x1 s1) fun r6 s5 =>
    ob (F_letter 93 s5) fun r10 s9 =>
    some ((), s9)
def J_printInstance_30 (cf_printInstance : Int32 → TS → Option (Unit × TS)) (x1 : Int32) (σ : TS) : Option (Unit × TS) :=
  if inb x1 200 then
  if inb (tA σ 76 (ix x1)) 481 then
  ob (F_printName (tB σ 50 (ix (tA σ 76 (ix x1)))) σ) fun r10 s9 =>
  if inb x1 200 then
  ob (F_printIndex (tA s9 77 (ix x1)) s9) fun r15 s14 =>
  some ((), s14)
  else none
  else none
  else none
def B_printInstance (cf_printInstance : Int32 → TS → Option (Unit × TS)) (x1 : Int32) (σ : TS) : Option (Unit × TS) :=
  if x1 = 0 then
    some ((), σ)
  else
    if inb x1 200 then
    ob (cf_printInstance (tA σ 75 (ix x1)) σ) fun r3 s2 =>
    if inb x1 200 then
    if tA s2 75 (ix x1) ≤ 0 then
      J_printInstance_30 cf_printInstance x1 s2
    else
      ob (F_letter 46 s2) fun r19 s18 =>
      J_printInstance_30 cf_printInstance x1 s18
    else none
    else none
def G_printInstance : Nat → (Int32 → TS → Option (Unit × TS))
  | 0 => (fun _ _ => none)
  | d + 1 => (B_printInstance (G_printInstance d))
def F_printInstance : Int32 → TS → Option (Unit × TS) := (G_printInstance 300)
def J_printVariable_25 (x1 : Int32) (σ : TS) : Option (Unit × TS) :=
  if inb x1 96 then
  if inb (tA σ 97 (ix x1)) 481 then
  ob (F_printName (tB σ 50 (ix (tA σ 97 (ix x1)))) σ) fun r10 s9 =>
  if inb x1 96 then
  ob (F_printIndex (tA s9 98 (ix x1)) s9) fun r15 s14 =>
  some ((), s14)
  else none
  else none
  else none
def F_printVariable (x1 : Int32) (σ : TS) : Option (Unit × TS) :=
  if inb x1 96 then
  ob (F_printInstance (tA σ 96 (ix x1)) σ) fun r3 s2 =>
  if inb x1 96 then
  if tA s2 96 (ix x1) ≤ 0 then
    J_printVariable_25 x1 s2
  else
    ob (F_letter 46 s2) fun r19 s18 =>
    J_printVariable_25 x1 s18
  else none
  else none
def L_letters_15 : Nat → Int32 → Int32 → Int32 → TS → Option (Unit × TS)
  | 0, _, _, _, _ => none
  | n + 1, x1, x2, x4, σ =>
    if x2 ≤ x4 then
      some ((), σ)
    else
      if 2200 ≤ x4 then
        some ((), σ)
      else
        if inb x4 2200 then
        if inb x4 2200 then
        nm (tsA σ 246 (ix x4) (nB (tA σ 6 (ix x4)))) fun s5 =>
        nm (x4 + 1) fun v6 =>
        L_letters_15 n x1 x2 v6 s5
        else none
        else none
def L_letters_67 : Nat → Int32 → Int32 → Int32 → TS → Option (Unit × TS)
  | 0, _, _, _, _ => none
  | n + 1, x2, x3, x4, σ =>
    if x3 ≤ x4 then
      some ((), σ)
    else
      if inb x4 2200 then
      if inb x4 2200 then
      nm (tsA σ 247 (ix x4) (nB (tA σ 6 (ix x4)))) fun s20 =>
      nm (x4 + 1) fun v21 =>
      L_letters_67 n x2 x3 v21 s20
      else none
      else none
def L_letters_101 : Nat → Int32 → Int32 → Int32 → TS → Option (Unit × TS)
  | 0, _, _, _, _ => none
  | n + 1, x2, x3, x4, σ =>
    if x2 ≤ x4 then
      some ((), σ)
    else
      if inb x4 2200 then
      if inb x4 2200 then
      nm (tsA σ 6 (ix x4) (nB (tA σ 246 (ix x4)))) fun s29 =>
      nm (x4 + 1) fun v30 =>
      L_letters_101 n x2 x3 v30 s29
      else none
      else none
def J_letters_49 (x1 : Int32) (x2 : Int32) (σ : TS) : Option (Int32 × TS) :=
  nm (tsI σ 176 0) fun s12 =>
  ob (F_printVariable x1 s12) fun r14 s13 =>
  nm (tI s13 9) fun v17 =>
  ob (L_letters_67 FU x2 v17 0 s13) fun q23 s24 =>
  nm (tsI s24 9 x2) fun s26 =>
  ob (L_letters_101 FU x2 v17 0 s26) fun q32 s33 =>
  some (v17, s33)
def F_letters (x1 : Int32) (σ : TS) : Option (Int32 × TS) :=
  nm (tI σ 9) fun v1 =>
  nm (tsI σ 9 0) fun s2 =>
  ob (L_letters_15 FU x1 v1 0 s2) fun q9 s10 =>
  J_letters_49 x1 v1 s10
def L_find_43 : Nat → Int32 → Int32 → Int32 → TS → Option (Int32 × TS)
  | 0, _, _, _, _ => none
  | n + 1, x1, x2, x3, σ =>
    if tI σ 8 ≤ x3 then
      some (x2, σ)
    else
      if x2 = 0 then
        nm (x3 + 1) fun v10 =>
        L_find_43 n x1 0 v10 σ
      else
        if inb x3 2200 then
        if inb x3 2000 then
        if tA σ 247 (ix x3) = tA σ 5 (ix x3) then
          nm (x3 + 1) fun v14 =>
          L_find_43 n x1 1 v14 σ
        else
          nm (x3 + 1) fun v13 =>
          L_find_43 n x1 0 v13 σ
        else none
        else none
def L_find_16 : Nat → Int32 → TS → Option ((Unit ⊕ Int32) × TS)
  | 0, _, _ => none
  | n + 1, x1, σ =>
    if tI σ 107 ≤ x1 then
      some (.inl (), σ)
    else
      ob (F_letters x1 σ) fun r7 s6 =>
      if r7 = tI s6 8 then
        ob (L_find_43 FU x1 1 0 s6) fun q18 s19 =>
        if q18 = 0 then
          nm (x1 + 1) fun v22 =>
          L_find_16 n v22 s19
        else
          some (.inr x1, s19)
      else
        nm (x1 + 1) fun v25 =>
        L_find_16 n v25 s6
def F_find (σ : TS) : Option (Int32 × TS) :=
  ob (F_takeTape σ) fun r2 s1 =>
  if tI s1 108 = 0 then
    some ((-4), s1)
  else
    obS (L_find_16 FU 0 s1) (fun r32 s29 => some (r32, s29)) fun q28 s29 =>
    some ((-2), s29)
