set_option maxRecDepth 100000
def K_X0_init (x0 : Nat) (M : CM) : Option (Unit × CM) :=
  if ¬ x0 = 0 then
  if ¬ (2000 : Int32) < 0 ∧ mn M ≤ 601024 ∧ ms M + ix 2000 ≤ 7293034 then
  nm (mn M) fun v3 =>
  nm (mnew M 51 (ix 2000) (ix 2000)) fun M4 =>
  if mk M4 x0 = 1 then
  nm (msR M4 0 x0 v3) fun M6 =>
  if ¬ (500 : Int32) < 0 ∧ mn M6 ≤ 601024 ∧ ms M6 + ix 500 ≤ 7293034 then
  nm (mn M6) fun v8 =>
  nm (mnew M6 51 (ix 500) (ix 500)) fun M9 =>
  if mk M9 x0 = 1 then
  nm (msR M9 2 x0 v8) fun M11 =>
  if mn M11 ≤ 601024 ∧ ms M11 + 3 ≤ 7293034 then
  nm (mn M11) fun v13 =>
  nm (mnew M11 2 0 3) fun M14 =>
  if ¬ v13 = 0 then
  ob (K_X1_init v13 M14) fun r17 M16 =>
  if mk M16 x0 = 1 then
  nm (msR M16 6 x0 v13) fun M21 =>
  if mn M21 ≤ 601024 ∧ ms M21 + 3 ≤ 7293034 then
  nm (mn M21) fun v23 =>
  nm (mnew M21 22 0 3) fun M24 =>
  if ¬ v23 = 0 then
  ob (K_J2_init v23 M24) fun r27 M26 =>
  if mk M26 x0 = 1 then
  nm (msR M26 7 x0 v23) fun M31 =>
  if mn M31 ≤ 601024 ∧ ms M31 + 3 ≤ 7293034 then
  nm (mn M31) fun v33 =>
  nm (mnew M31 22 0 3) fun M34 =>
  if ¬ v33 = 0 then
  ob (K_J2_init v33 M34) fun r37 M36 =>
  if mk M36 x0 = 1 then
  nm (msR M36 8 x0 v33) fun M41 =>
  if mn M41 ≤ 601024 ∧ ms M41 + 13 ≤ 7293034 then
  nm (mn M41) fun v43 =>
  nm (mnew M41 3 0 13) fun M44 =>
  if ¬ v43 = 0 then
  ob (K_X2_init v43 x0 M44) fun r47 M46 =>
  if mk M46 x0 = 1 then
  nm (msR M46 10 x0 v43) fun M51 =>
  if mn M51 ≤ 601024 ∧ ms M51 + 3 ≤ 7293034 then
  nm (mn M51) fun v53 =>
  nm (mnew M51 22 0 3) fun M54 =>
  if ¬ v53 = 0 then
  ob (K_J2_init v53 M54) fun r57 M56 =>
  if mk M56 x0 = 1 then
  nm (msR M56 11 x0 v53) fun M61 =>
  if mn M61 ≤ 601024 ∧ ms M61 + 3 ≤ 7293034 then
  nm (mn M61) fun v63 =>
  nm (mnew M61 22 0 3) fun M64 =>
  if ¬ v63 = 0 then
  ob (K_J2_init v63 M64) fun r67 M66 =>
  if mk M66 x0 = 1 then
  nm (msR M66 12 x0 v63) fun M71 =>
  if mn M71 ≤ 601024 ∧ ms M71 + 3 ≤ 7293034 then
  nm (mn M71) fun v73 =>
  nm (mnew M71 22 0 3) fun M74 =>
  if ¬ v73 = 0 then
  ob (K_J2_init v73 M74) fun r77 M76 =>
  if mk M76 x0 = 1 then
  nm (msR M76 13 x0 v73) fun M81 =>
  if mn M81 ≤ 601024 ∧ ms M81 + 3 ≤ 7293034 then
  nm (mn M81) fun v83 =>
  nm (mnew M81 22 0 3) fun M84 =>
  if ¬ v83 = 0 then
  ob (K_J2_init v83 M84) fun r87 M86 =>
  if mk M86 x0 = 1 then
  nm (msR M86 14 x0 v83) fun M91 =>
  if mn M91 ≤ 601024 ∧ ms M91 + 3 ≤ 7293034 then
  nm (mn M91) fun v93 =>
  nm (mnew M91 22 0 3) fun M94 =>
  if ¬ v93 = 0 then
  ob (K_J2_init v93 M94) fun r97 M96 =>
  if mk M96 x0 = 1 then
  nm (msR M96 19 x0 v93) fun M101 =>
  if ¬ (17 : Int32) < 0 ∧ mn M101 ≤ 601024 ∧ ms M101 + ix 17 ≤ 7293034 then
  nm (mn M101) fun v103 =>
  nm (mnew M101 50 (ix 17) (ix 17)) fun M104 =>
  if mk M104 x0 = 1 then
  nm (msR M104 22 x0 v103) fun M106 =>
  if ¬ (17 : Int32) < 0 ∧ mn M106 ≤ 601024 ∧ ms M106 + ix 17 ≤ 7293034 then
  nm (mn M106) fun v108 =>
  nm (mnew M106 50 (ix 17) (ix 17)) fun M109 =>
  if mk M109 x0 = 1 then
  nm (msR M109 23 x0 v108) fun M111 =>
  if mn M111 ≤ 601024 ∧ ms M111 + 6 ≤ 7293034 then
  nm (mn M111) fun v113 =>
  nm (mnew M111 4 0 6) fun M114 =>
  if ¬ v113 = 0 then
  ob (K_X3_init v113 12000 100 24 M114) fun r117 M116 =>
  if mk M116 x0 = 1 then
  nm (msR M116 25 x0 v113) fun M121 =>
  if mn M121 ≤ 601024 ∧ ms M121 + 6 ≤ 7293034 then
  nm (mn M121) fun v123 =>
  nm (mnew M121 4 0 6) fun M124 =>
  if ¬ v123 = 0 then
  ob (K_X3_init v123 1000 100 24 M124) fun r127 M126 =>
  if mk M126 x0 = 1 then
  nm (msR M126 26 x0 v123) fun M131 =>
  if mk M131 x0 = 1 then
  if mk M131 x0 = 1 then
  nm (msR M131 27 x0 (mR M131 25 x0)) fun M134 =>
  if mn M134 ≤ 601024 ∧ ms M134 + 3 ≤ 7293034 then
  nm (mn M134) fun v136 =>
  nm (mnew M134 22 0 3) fun M137 =>
  if ¬ v136 = 0 then
  ob (K_J2_init v136 M137) fun r140 M139 =>
  if mk M139 x0 = 1 then
  nm (msR M139 28 x0 v136) fun M144 =>
  if ¬ (101 : Int32) < 0 ∧ mn M144 ≤ 601024 ∧ ms M144 + ix 101 ≤ 7293034 then
  nm (mn M144) fun v146 =>
  nm (mnew M144 50 (ix 101) (ix 101)) fun M147 =>
  if mk M147 x0 = 1 then
  nm (msR M147 29 x0 v146) fun M149 =>
  if mn M149 ≤ 601024 ∧ ms M149 + 3 ≤ 7293034 then
  nm (mn M149) fun v151 =>
  nm (mnew M149 22 0 3) fun M152 =>
  if ¬ v151 = 0 then
  ob (K_J2_init v151 M152) fun r155 M154 =>
  if mk M154 x0 = 1 then
  nm (msR M154 34 x0 v151) fun M159 =>
  if mn M159 ≤ 601024 ∧ ms M159 + 3 ≤ 7293034 then
  nm (mn M159) fun v161 =>
  nm (mnew M159 22 0 3) fun M162 =>
  if ¬ v161 = 0 then
  ob (K_J2_init v161 M162) fun r165 M164 =>
  if mk M164 x0 = 1 then
  nm (msR M164 36 x0 v161) fun M169 =>
  if mn M169 ≤ 601024 ∧ ms M169 + 3 ≤ 7293034 then
  nm (mn M169) fun v171 =>
  nm (mnew M169 22 0 3) fun M172 =>
  if ¬ v171 = 0 then
  ob (K_J2_init v171 M172) fun r175 M174 =>
  if mk M174 x0 = 1 then
  nm (msR M174 38 x0 v171) fun M179 =>
  if ¬ (24 : Int32) < 0 ∧ mn M179 ≤ 601024 ∧ ms M179 + ix 24 ≤ 7293034 then
  nm (mn M179) fun v181 =>
  nm (mnew M179 54 (ix 24) (ix 24)) fun M182 =>
  if mk M182 x0 = 1 then
  nm (msR M182 40 x0 v181) fun M184 =>
  if ¬ (400 : Int32) < 0 ∧ mn M184 ≤ 601024 ∧ ms M184 + ix 400 ≤ 7293034 then
  nm (mn M184) fun v186 =>
  nm (mnew M184 50 (ix 400) (ix 400)) fun M187 =>
  if mk M187 x0 = 1 then
  nm (msR M187 42 x0 v186) fun M189 =>
  if ¬ (700 : Int32) < 0 ∧ mn M189 ≤ 601024 ∧ ms M189 + ix 700 ≤ 7293034 then
  nm (mn M189) fun v191 =>
  nm (mnew M189 50 (ix 700) (ix 700)) fun M192 =>
  if mk M192 x0 = 1 then
  nm (msR M192 44 x0 v191) fun M194 =>
  if ¬ (2 : Int32) < 0 ∧ mn M194 ≤ 601024 ∧ ms M194 + ix 2 ≤ 7293034 then
  nm (mn M194) fun v196 =>
  nm (mnew M194 50 (ix 2) (ix 2)) fun M197 =>
  if mk M197 x0 = 1 then
  nm (msR M197 47 x0 v196) fun M199 =>
  if ¬ (2 : Int32) < 0 ∧ mn M199 ≤ 601024 ∧ ms M199 + ix 2 ≤ 7293034 then
  nm (mn M199) fun v201 =>
  nm (mnew M199 50 (ix 2) (ix 2)) fun M202 =>
  if mk M202 x0 = 1 then
  nm (msR M202 48 x0 v201) fun M204 =>
  if ¬ (180 : Int32) < 0 ∧ mn M204 ≤ 601024 ∧ ms M204 + ix 180 ≤ 7293034 then
  nm (mn M204) fun v206 =>
  nm (mnew M204 50 (ix 180) (ix 180)) fun M207 =>
  if mk M207 x0 = 1 then
  nm (msR M207 50 x0 v206) fun M209 =>
  if ¬ (180 : Int32) < 0 ∧ mn M209 ≤ 601024 ∧ ms M209 + ix 180 ≤ 7293034 then
  nm (mn M209) fun v211 =>
  nm (mnew M209 50 (ix 180) (ix 180)) fun M212 =>
  if mk M212 x0 = 1 then
  nm (msR M212 51 x0 v211) fun M214 =>
  if ¬ (180 : Int32) < 0 ∧ mn M214 ≤ 601024 ∧ ms M214 + ix 180 ≤ 7293034 then
  nm (mn M214) fun v216 =>
  nm (mnew M214 50 (ix 180) (ix 180)) fun M217 =>
  if mk M217 x0 = 1 then
  nm (msR M217 52 x0 v216) fun M219 =>
  if ¬ (180 : Int32) < 0 ∧ mn M219 ≤ 601024 ∧ ms M219 + ix 180 ≤ 7293034 then
  nm (mn M219) fun v221 =>
  nm (mnew M219 50 (ix 180) (ix 180)) fun M222 =>
  if mk M222 x0 = 1 then
  nm (msR M222 53 x0 v221) fun M224 =>
  if ¬ (180 : Int32) < 0 ∧ mn M224 ≤ 601024 ∧ ms M224 + ix 180 ≤ 7293034 then
  nm (mn M224) fun v226 =>
  nm (mnew M224 50 (ix 180) (ix 180)) fun M227 =>
  if mk M227 x0 = 1 then
  nm (msR M227 54 x0 v226) fun M229 =>
  if ¬ (180 : Int32) < 0 ∧ mn M229 ≤ 601024 ∧ ms M229 + ix 180 ≤ 7293034 then
  nm (mn M229) fun v231 =>
  nm (mnew M229 50 (ix 180) (ix 180)) fun M232 =>
  if mk M232 x0 = 1 then
  nm (msR M232 55 x0 v231) fun M234 =>
  if ¬ (180 : Int32) < 0 ∧ mn M234 ≤ 601024 ∧ ms M234 + ix 180 ≤ 7293034 then
  nm (mn M234) fun v236 =>
  nm (mnew M234 50 (ix 180) (ix 180)) fun M237 =>
  if mk M237 x0 = 1 then
  nm (msR M237 56 x0 v236) fun M239 =>
  if ¬ (180 : Int32) < 0 ∧ mn M239 ≤ 601024 ∧ ms M239 + ix 180 ≤ 7293034 then
  nm (mn M239) fun v241 =>
  nm (mnew M239 54 (ix 180) (ix 180)) fun M242 =>
  if mk M242 x0 = 1 then
  nm (msR M242 58 x0 v241) fun M244 =>
  if ¬ (180 : Int32) < 0 ∧ mn M244 ≤ 601024 ∧ ms M244 + ix 180 ≤ 7293034 then
  nm (mn M244) fun v246 =>
  nm (mnew M244 54 (ix 180) (ix 180)) fun M247 =>
  if mk M247 x0 = 1 then
  nm (msR M247 59 x0 v246) fun M249 =>
  if ¬ (180 : Int32) < 0 ∧ mn M249 ≤ 601024 ∧ ms M249 + ix 180 ≤ 7293034 then
  nm (mn M249) fun v251 =>
  nm (mnew M249 52 (ix 180) (ix 180)) fun M252 =>
  if mk M252 x0 = 1 then
  nm (msR M252 60 x0 v251) fun M254 =>
  if ¬ (180 : Int32) < 0 ∧ mn M254 ≤ 601024 ∧ ms M254 + ix 180 ≤ 7293034 then
  nm (mn M254) fun v256 =>
  nm (mnew M254 50 (ix 180) (ix 180)) fun M257 =>
  if mk M257 x0 = 1 then
  nm (msR M257 61 x0 v256) fun M259 =>
  if ¬ (180 : Int32) < 0 ∧ mn M259 ≤ 601024 ∧ ms M259 + ix 180 ≤ 7293034 then
  nm (mn M259) fun v261 =>
  nm (mnew M259 50 (ix 180) (ix 180)) fun M262 =>
  if mk M262 x0 = 1 then
  nm (msR M262 62 x0 v261) fun M264 =>
  if ¬ (180 : Int32) < 0 ∧ mn M264 ≤ 601024 ∧ ms M264 + ix 180 ≤ 7293034 then
  nm (mn M264) fun v266 =>
  nm (mnew M264 50 (ix 180) (ix 180)) fun M267 =>
  if mk M267 x0 = 1 then
  nm (msR M267 63 x0 v266) fun M269 =>
  if ¬ (32400 : Int32) < 0 ∧ mn M269 ≤ 601024 ∧ ms M269 + ix 32400 ≤ 7293034 then
  nm (mn M269) fun v271 =>
  nm (mnew M269 52 (ix 32400) (ix 32400)) fun M272 =>
  if mk M272 x0 = 1 then
  nm (msR M272 64 x0 v271) fun M274 =>
  if mn M274 ≤ 601024 ∧ ms M274 + 6 ≤ 7293034 then
  nm (mn M274) fun v276 =>
  nm (mnew M274 4 0 6) fun M277 =>
  if ¬ v276 = 0 then
  ob (K_X3_init v276 40000 200 52 M277) fun r280 M279 =>
  if mk M279 x0 = 1 then
  nm (msR M279 67 x0 v276) fun M284 =>
  if mn M284 ≤ 601024 ∧ ms M284 + 6 ≤ 7293034 then
  nm (mn M284) fun v286 =>
  nm (mnew M284 4 0 6) fun M287 =>
  if ¬ v286 = 0 then
  ob (K_X3_init v286 30000 300 52 M287) fun r290 M289 =>
  if mk M289 x0 = 1 then
  nm (msR M289 68 x0 v286) fun M294 =>
  if mk M294 x0 = 1 then
  if mk M294 x0 = 1 then
  nm (msR M294 69 x0 (mR M294 67 x0)) fun M297 =>
  if ¬ (24 : Int32) < 0 ∧ mn M297 ≤ 601024 ∧ ms M297 + ix 24 ≤ 7293034 then
  nm (mn M297) fun v299 =>
  nm (mnew M297 54 (ix 24) (ix 24)) fun M300 =>
  if mk M300 x0 = 1 then
  nm (msR M300 70 x0 v299) fun M302 =>
  if ¬ (180 : Int32) < 0 ∧ mn M302 ≤ 601024 ∧ ms M302 + ix 180 ≤ 7293034 then
  nm (mn M302) fun v304 =>
  nm (mnew M302 52 (ix 180) (ix 180)) fun M305 =>
  if mk M305 x0 = 1 then
  nm (msR M305 71 x0 v304) fun M307 =>
  if ¬ (180 : Int32) < 0 ∧ mn M307 ≤ 601024 ∧ ms M307 + ix 180 ≤ 7293034 then
  nm (mn M307) fun v309 =>
  nm (mnew M307 52 (ix 180) (ix 180)) fun M310 =>
  if mk M310 x0 = 1 then
  nm (msR M310 72 x0 v309) fun M312 =>
  if ¬ (180 : Int32) < 0 ∧ mn M312 ≤ 601024 ∧ ms M312 + ix 180 ≤ 7293034 then
  nm (mn M312) fun v314 =>
  nm (mnew M312 50 (ix 180) (ix 180)) fun M315 =>
  if mk M315 x0 = 1 then
  nm (msR M315 73 x0 v314) fun M317 =>
  if ¬ (181 : Int32) < 0 ∧ mn M317 ≤ 601024 ∧ ms M317 + ix 181 ≤ 7293034 then
  nm (mn M317) fun v319 =>
  nm (mnew M317 50 (ix 181) (ix 181)) fun M320 =>
  if mk M320 x0 = 1 then
  nm (msR M320 76 x0 v319) fun M322 =>
  if ¬ (180 : Int32) < 0 ∧ mn M322 ≤ 601024 ∧ ms M322 + ix 180 ≤ 7293034 then
  nm (mn M322) fun v324 =>
  nm (mnew M322 50 (ix 180) (ix 180)) fun M325 =>
  if mk M325 x0 = 1 then
  nm (msR M325 77 x0 v324) fun M327 =>
  if ¬ (180 : Int32) < 0 ∧ mn M327 ≤ 601024 ∧ ms M327 + ix 180 ≤ 7293034 then
  nm (mn M327) fun v329 =>
  nm (mnew M327 50 (ix 180) (ix 180)) fun M330 =>
  if mk M330 x0 = 1 then
  nm (msR M330 78 x0 v329) fun M332 =>
  if ¬ (180 : Int32) < 0 ∧ mn M332 ≤ 601024 ∧ ms M332 + ix 180 ≤ 7293034 then
  nm (mn M332) fun v334 =>
  nm (mnew M332 52 (ix 180) (ix 180)) fun M335 =>
  if mk M335 x0 = 1 then
  nm (msR M335 79 x0 v334) fun M337 =>
  if ¬ (180 : Int32) < 0 ∧ mn M337 ≤ 601024 ∧ ms M337 + ix 180 ≤ 7293034 then
  nm (mn M337) fun v339 =>
  nm (mnew M337 50 (ix 180) (ix 180)) fun M340 =>
  if mk M340 x0 = 1 then
  nm (msR M340 80 x0 v339) fun M342 =>
  if ¬ (180 : Int32) < 0 ∧ mn M342 ≤ 601024 ∧ ms M342 + ix 180 ≤ 7293034 then
  nm (mn M342) fun v344 =>
  nm (mnew M342 50 (ix 180) (ix 180)) fun M345 =>
  if mk M345 x0 = 1 then
  nm (msR M345 81 x0 v344) fun M347 =>
  if ¬ (180 : Int32) < 0 ∧ mn M347 ≤ 601024 ∧ ms M347 + ix 180 ≤ 7293034 then
  nm (mn M347) fun v349 =>
  nm (mnew M347 50 (ix 180) (ix 180)) fun M350 =>
  if mk M350 x0 = 1 then
  nm (msR M350 82 x0 v349) fun M352 =>
  if ¬ (24 : Int32) < 0 ∧ mn M352 ≤ 601024 ∧ ms M352 + ix 24 ≤ 7293034 then
  nm (mn M352) fun v354 =>
  nm (mnew M352 52 (ix 24) (ix 24)) fun M355 =>
  if mk M355 x0 = 1 then
  nm (msR M355 87 x0 v354) fun M357 =>
  if ¬ (625 : Int32) < 0 ∧ mn M357 ≤ 601024 ∧ ms M357 + ix 625 ≤ 7293034 then
  nm (mn M357) fun v359 =>
  nm (mnew M357 50 (ix 625) (ix 625)) fun M360 =>
  if mk M360 x0 = 1 then
  nm (msR M360 88 x0 v359) fun M362 =>
  if ¬ (25 : Int32) < 0 ∧ mn M362 ≤ 601024 ∧ ms M362 + ix 25 ≤ 7293034 then
  nm (mn M362) fun v364 =>
  nm (mnew M362 50 (ix 25) (ix 25)) fun M365 =>
  if mk M365 x0 = 1 then
  nm (msR M365 89 x0 v364) fun M367 =>
  if mk M367 x0 = 1 then
  nm (msI M367 94 x0 655) fun M369 =>
  if mn M369 ≤ 601024 ∧ ms M369 + 7 ≤ 7293034 then
  nm (mn M369) fun v371 =>
  nm (mnew M369 5 0 7) fun M372 =>
  if ¬ v371 = 0 then
  ob (K_X4_init v371 M372) fun r375 M374 =>
  if mk M374 x0 = 1 then
  nm (msR M374 98 x0 v371) fun M379 =>
  if ¬ (180 : Int32) < 0 ∧ mn M379 ≤ 601024 ∧ ms M379 + ix 180 ≤ 7293034 then
  nm (mn M379) fun v381 =>
  nm (mnew M379 50 (ix 180) (ix 180)) fun M382 =>
  if mk M382 x0 = 1 then
  nm (msR M382 99 x0 v381) fun M384 =>
  if ¬ (180 : Int32) < 0 ∧ mn M384 ≤ 601024 ∧ ms M384 + ix 180 ≤ 7293034 then
  nm (mn M384) fun v386 =>
  nm (mnew M384 50 (ix 180) (ix 180)) fun M387 =>
  if mk M387 x0 = 1 then
  nm (msR M387 100 x0 v386) fun M389 =>
  if ¬ (180 : Int32) < 0 ∧ mn M389 ≤ 601024 ∧ ms M389 + ix 180 ≤ 7293034 then
  nm (mn M389) fun v391 =>
  nm (mnew M389 50 (ix 180) (ix 180)) fun M392 =>
  if mk M392 x0 = 1 then
  nm (msR M392 101 x0 v391) fun M394 =>
  if ¬ (180 : Int32) < 0 ∧ mn M394 ≤ 601024 ∧ ms M394 + ix 180 ≤ 7293034 then
  nm (mn M394) fun v396 =>
  nm (mnew M394 50 (ix 180) (ix 180)) fun M397 =>
  if mk M397 x0 = 1 then
  nm (msR M397 102 x0 v396) fun M399 =>
  if ¬ (180 : Int32) < 0 ∧ mn M399 ≤ 601024 ∧ ms M399 + ix 180 ≤ 7293034 then
  nm (mn M399) fun v401 =>
  nm (mnew M399 50 (ix 180) (ix 180)) fun M402 =>
  if mk M402 x0 = 1 then
  nm (msR M402 103 x0 v401) fun M404 =>
  if ¬ (96 : Int32) < 0 ∧ mn M404 ≤ 601024 ∧ ms M404 + ix 96 ≤ 7293034 then
  nm (mn M404) fun v406 =>
  nm (mnew M404 50 (ix 96) (ix 96)) fun M407 =>
  if mk M407 x0 = 1 then
  nm (msR M407 104 x0 v406) fun M409 =>
  if ¬ (96 : Int32) < 0 ∧ mn M409 ≤ 601024 ∧ ms M409 + ix 96 ≤ 7293034 then
  nm (mn M409) fun v411 =>
  nm (mnew M409 50 (ix 96) (ix 96)) fun M412 =>
  if mk M412 x0 = 1 then
  nm (msR M412 105 x0 v411) fun M414 =>
  if ¬ (180 : Int32) < 0 ∧ mn M414 ≤ 601024 ∧ ms M414 + ix 180 ≤ 7293034 then
  nm (mn M414) fun v416 =>
  nm (mnew M414 50 (ix 180) (ix 180)) fun M417 =>
  if mk M417 x0 = 1 then
  nm (msR M417 106 x0 v416) fun M419 =>
  if ¬ (625 : Int32) < 0 ∧ mn M419 ≤ 601024 ∧ ms M419 + ix 625 ≤ 7293034 then
  nm (mn M419) fun v421 =>
  nm (mnew M419 50 (ix 625) (ix 625)) fun M422 =>
  if mk M422 x0 = 1 then
  nm (msR M422 107 x0 v421) fun M424 =>
  some ((), M424)
  else none
  else none
  else none
  else none
  else none
  else none
  else none
  else none
  else none
  else none
  else none
  else none
  else none
  else none
  else none
  else none
  else none
  else none
  else none
  else none
  else none
  else none
  else none
  else none
  else none
  else none
  else none
  else none
  else none
  else none
  else none
  else none
  else none
  else none
  else none
  else none
  else none
  else none
  else none
  else none
  else none
  else none
  else none
  else none
  else none
  else none
  else none
  else none
  else none
  else none
  else none
  else none
  else none
  else none
  else none
  else none
  else none
  else none
  else none
  else none
  else none
  else none
  else none
  else none
  else none
  else none
  else none
  else none
  else none
  else none
  else none
  else none
  else none
  else none
  else none
  else none
  else none
  else none
  else none
  else none
  else none
  else none
  else none
  else none
  else none
  else none
  else none
  else none
  else none
  else none
  else none
  else none
  else none
  else none
  else none
  else none
  else none
  else none
  else none
  else none
  else none
  else none
  else none
  else none
  else none
  else none
  else none
  else none
  else none
  else none
  else none
  else none
  else none
  else none
  else none
  else none
  else none
  else none
  else none
  else none
  else none
  else none
  else none
  else none
  else none
  else none
  else none
  else none
  else none
  else none
  else none
  else none
  else none
  else none
  else none
  else none
  else none
  else none
  else none
  else none
  else none
  else none
  else none
  else none
  else none
  else none
  else none
  else none
  else none
  else none
  else none
  else none
  else none
  else none
def KL_X0_init_2_42 : Nat → Int32 → CM → Option (Unit × CM)
  | 0, _, _ => none
  | n + 1, x1, M =>
    if 180 ≤ x1 then
      some ((), M)
    else
      if mI M 57 1 ≤ x1 then
        if inb x1 180 then
        nm (mwA M 124 (ix x1) 0) fun M9 =>
        if inb x1 180 then
        if inb x1 180 then
        nm (mwA M9 125 (ix x1) (mA M9 124 (ix x1))) fun M12 =>
        nm (x1 + 1) fun v13 =>
        KL_X0_init_2_42 n v13 M12
        else none
        else none
        else none
      else
        if inb x1 180 then
        if mA M 120 (ix x1) = 0 then
          if inb x1 180 then
          ob (K_J2_get 98 (mA M 119 (ix x1)) M) fun r23 M22 =>
          if r23 = 0 ∨ mk M22 r23 = 17 then
          if mk M22 r23 = 17 then
          if inb x1 180 then
          nm (mwA M22 124 (ix x1) (mI M22 3212 r23)) fun M29 =>
          if inb x1 180 then
          if inb x1 180 then
          nm (mwA M29 125 (ix x1) (mA M29 124 (ix x1))) fun M32 =>
          nm (x1 + 1) fun v33 =>
          KL_X0_init_2_42 n v33 M32
          else none
          else none
          else none
          else none
          else none
          else none
        else
          if inb x1 180 then
          nm (mwA M 124 (ix x1) 0) fun M16 =>
          if inb x1 180 then
          if inb x1 180 then
          nm (mwA M16 125 (ix x1) (mA M16 124 (ix x1))) fun M19 =>
          nm (x1 + 1) fun v20 =>
          KL_X0_init_2_42 n v20 M19
          else none
          else none
          else none
        else none
def KL_X0_init_2_115 : Nat → Int32 → CM → Option (Unit × CM)
  | 0, _, _ => none
  | n + 1, x1, M =>
    if mI M 15 1 ≤ x1 then
      some ((), M)
    else
      ob (K_J2_get 98 x1 M) fun r41 M40 =>
      if r41 = 0 ∨ mk M40 r41 = 17 then
      if mk M40 r41 = 17 then
      if mI M40 3203 r41 = 2 then
        if mk M40 r41 = 17 then
        if mk M40 r41 = 17 then
        nm (msI M40 3213 r41 (mI M40 3212 r41)) fun M49 =>
        if mk M49 r41 = 17 then
        if mk M49 r41 = 17 then
        nm (msI M49 3214 r41 (mI M49 3213 r41)) fun M52 =>
        nm (x1 + 1) fun v53 =>
        KL_X0_init_2_115 n v53 M52
        else none
        else none
        else none
        else none
      else
        nm (x1 + 1) fun v46 =>
        KL_X0_init_2_115 n v46 M40
      else none
      else none
def KL_X0_init_2_167 : Nat → Int32 → CM → Option (Unit × CM)
  | 0, _, _ => none
  | n + 1, x1, M =>
    if 24 ≤ x1 then
      some ((), M)
    else
      if inb x1 24 then
      nm (mwA M 148 (ix x1) (nZ 0)) fun M60 =>
      nm (x1 + 1) fun v61 =>
      KL_X0_init_2_167 n v61 M60
      else none
def KL_X0_init_2_188 : Nat → Int32 → CM → Option (Unit × CM)
  | 0, _, _ => none
  | n + 1, x1, M =>
    if mI M 39 1 ≤ x1 then
      some ((), M)
    else
      ob (K_J2_get 113 x1 M) fun r67 M66 =>
      if r67 = 0 ∨ mk M66 r67 = 20 then
      if mk M66 r67 = 20 then
      nm (msI M66 3804 r67 0) fun M72 =>
      nm (x1 + 1) fun v73 =>
      KL_X0_init_2_188 n v73 M72
      else none
      else none
def K_X0_init_2 (M : CM) : Option (Int32 × CM) :=
  if mI M 46 1 = 0 then
    some ((-4), M)
  else
    nm (msI M 91 1 0) fun M2 =>
    nm (msI M2 85 1 0) fun M3 =>
    nm (msI M3 95 1 0) fun M4 =>
    nm (msI M4 96 1 0) fun M5 =>
    nm (msI M5 97 1 0) fun M6 =>
    nm (msI M6 90 1 0) fun M7 =>
    ob (KL_X0_init_2_42 FU 0 M7) fun q37 M38 =>
    ob (KL_X0_init_2_115 FU 0 M38) fun q56 M57 =>
    ob (KL_X0_init_2_167 FU 0 M57) fun q63 M64 =>
    ob (KL_X0_init_2_188 FU 0 M64) fun q75 M76 =>
    obS (K_X0_event 1 M76) (fun w82 M78 =>
        ob (K_X0_fails w82 M78) fun r84 M83 =>
        some (r84, M83))
    fun r79 M78 =>
    nm (msI M78 91 1 1) fun M87 =>
    nm (msI M87 92 1 0) fun M88 =>
    some (0, M88)
def KJ_X0_isThere_70 (cf_X0_isThere : Nat → Int32 → Int32 → CM → Option (Int32 × CM)) (x1 : Nat) (x2 : Int32) (x3 : Int32) (M : CM) : Option (Int32 × CM) :=
  if mk M x1 = 18 then
  ob (cf_X0_isThere (mR M 3405 x1) x2 x3 M) fun r5 M4 =>
  if r5 = 0 then
    if mk M4 x1 = 18 then
    ob (cf_X0_isThere (mR M4 3406 x1) x2 x3 M4) fun r10 M9 =>
    if r10 = 0 then
      if mk M9 x1 = 18 then
      ob (cf_X0_isThere (mR M9 3407 x1) x2 x3 M9) fun r15 M14 =>
      if r15 = 0 then
        some (0, M14)
      else
        some (1, M14)
      else none
    else
      some (1, M9)
    else none
  else
    some (1, M4)
  else none
def KJ_X0_isThere_27 (cf_X0_isThere : Nat → Int32 → Int32 → CM → Option (Int32 × CM)) (x1 : Nat) (x2 : Int32) (x3 : Int32) (M : CM) : Option (Int32 × CM) :=
  if mk M x1 = 18 then
  ob (K_J2_get 98 (mI M 3401 x1) M) fun r23 M22 =>
  if r23 = 0 ∨ mk M22 r23 = 17 then
  if mk M22 r23 = 17 then
  if mI M22 3203 r23 = 0 then
    if mk M22 x1 = 18 then
    ob (K_J2_get 98 (mI M22 3401 x1) M22) fun r30 M29 =>
    if r30 = 0 ∨ mk M29 r30 = 17 then
    if mk M29 r30 = 17 then
    if mI M29 3217 r30 = x2 then
      some (1, M29)
    else
      KJ_X0_isThere_70 cf_X0_isThere x1 x2 x3 M29
    else none
    else none
    else none
  else
    KJ_X0_isThere_70 cf_X0_isThere x1 x2 x3 M22
  else none
  else none
  else none
def KJ_X0_isThere_18 (cf_X0_isThere : Nat → Int32 → Int32 → CM → Option (Int32 × CM)) (x1 : Nat) (x2 : Int32) (x3 : Int32) (M : CM) : Option (Int32 × CM) :=
  if mk M x1 = 18 then
  if mI M 3400 x1 = 15 then
    KJ_X0_isThere_27 cf_X0_isThere x1 x2 x3 M
  else
    KJ_X0_isThere_70 cf_X0_isThere x1 x2 x3 M
  else none
def KB_X0_isThere (cf_X0_isThere : Nat → Int32 → Int32 → CM → Option (Int32 × CM)) (x1 : Nat) (x2 : Int32) (x3 : Int32) (M : CM) : Option (Int32 × CM) :=
  if x1 = 0 then
    some (0, M)
  else
    if mk M x1 = 18 then
    if mI M 3400 x1 = 1 then
      if x3 = 0 then
        KJ_X0_isThere_27 cf_X0_isThere x1 x2 x3 M
      else
        KJ_X0_isThere_18 cf_X0_isThere x1 x2 x3 M
    else
      KJ_X0_isThere_18 cf_X0_isThere x1 x2 x3 M
    else none
def KG_X0_isThere : Nat → (Nat → Int32 → Int32 → CM → Option (Int32 × CM))
  | 0 => (fun _ _ _ _ => none)
  | d + 1 => (KB_X0_isThere (KG_X0_isThere d))
def K_X0_isThere : Nat → Int32 → Int32 → CM → Option (Int32 × CM) := (KG_X0_isThere 300)
def KL_X0_isInAny_2 : Nat → Int32 → Int32 → Int32 → CM → Option ((Unit ⊕ Int32) × CM)
  | 0, _, _, _, _ => none
  | n + 1, x1, x2, x3, M =>
    if mI M 35 1 ≤ x3 then
      some (.inl (), M)
    else
      if inb x3 180 then
      if mA M 128 (ix x3) = 0 then
        ob (K_J2_get 111 x3 M) fun r5 M4 =>
        if r5 = 0 ∨ mk M4 r5 = 19 then
        if mk M4 r5 = 19 then
        ob (K_X0_isThere (mR M4 3600 r5) x1 x2 M4) fun r11 M10 =>
        if r11 = 0 then
          ob (K_J2_get 111 x3 M10) fun r15 M14 =>
          if r15 = 0 ∨ mk M14 r15 = 19 then
          if mk M14 r15 = 19 then
          ob (K_X0_isThere (mR M14 3601 r15) x1 x2 M14) fun r21 M20 =>
          if r21 = 0 then
            nm (x3 + 1) fun v24 =>
            KL_X0_isInAny_2 n x1 x2 v24 M20
          else
            some (.inr 1, M20)
          else none
          else none
        else
          some (.inr 1, M10)
        else none
        else none
      else
        nm (x3 + 1) fun v3 =>
        KL_X0_isInAny_2 n x1 x2 v3 M
      else none
def K_X0_isInAny (x1 : Int32) (x2 : Int32) (M : CM) : Option (Int32 × CM) :=
  obS (KL_X0_isInAny_2 FU x1 x2 0 M) (fun r33 M30 => some (r33, M30)) fun q29 M30 =>
  some (0, M30)
def KL_X0_isSampleDue_2 : Nat → Int32 → CM → Option ((Unit ⊕ Int32) × CM)
  | 0, _, _ => none
  | n + 1, x1, M =>
    if mI M 41 1 ≤ x1 then
      some (.inl (), M)
    else
      if inb x1 24 then
      if mk M (mX M 137 (ix x1)) = 18 then
      if mI M 3400 (mX M 137 (ix x1)) = 29 then
        if inb x1 24 then
        ob (K_X0_isDue (mX M 137 (ix x1)) M) fun r6 M5 =>
        if r6 = 0 then
          nm (x1 + 1) fun v9 =>
          KL_X0_isSampleDue_2 n v9 M5
        else
          some (.inr 1, M5)
        else none
      else
        nm (x1 + 1) fun v3 =>
        KL_X0_isSampleDue_2 n v3 M
      else none
      else none
def K_X0_isSampleDue (M : CM) : Option (Int32 × CM) :=
  obS (KL_X0_isSampleDue_2 FU 0 M) (fun r17 M14 => some (r17, M14)) fun q13 M14 =>
  some (0, M14)
def KL_X0_judged_2 : Nat → Int32 → CM → Option ((Unit ⊕ Int32) × CM)
  | 0, _, _ => none
  | n + 1, x1, M =>
    if mI M 35 1 ≤ x1 then
      some (.inl (), M)
    else
      ob (K_J2_get 111 x1 M) fun r2 M1 =>
      if r2 = 0 ∨ mk M1 r2 = 19 then
      if mk M1 r2 = 19 then
      ob (K_J2_get 111 x1 M1) fun r8 M7 =>
      if r8 = 0 ∨ mk M7 r8 = 19 then
      if mk M7 r8 = 19 then
      ob (K_X0_fit (mR M1 3600 r2) (mR M7 3601 r8) M7) fun r14 M13 =>
      if r14 = 0 then
        some (.inr (1 + x1), M13)
      else
        nm (x1 + 1) fun v17 =>
        KL_X0_judged_2 n v17 M13
      else none
      else none
      else none
      else none
def KL_X0_judged_57 : Nat → Int32 → CM → Option ((Unit ⊕ Int32) × CM)
  | 0, _, _ => none
  | n + 1, x1, M =>
    if mI M 37 1 ≤ x1 then
      some (.inl (), M)
    else
      ob (K_J2_get 112 x1 M) fun r24 M23 =>
      if r24 = 0 ∨ mk M23 r24 = 21 then
      if mk M23 r24 = 21 then
      ob (K_J2_get 112 x1 M23) fun r30 M29 =>
      if r30 = 0 ∨ mk M29 r30 = 21 then
      if mk M29 r30 = 21 then
      ob (K_X0_fitsVar (mR M23 4002 r24) (mI M29 4001 r30) M29) fun r36 M35 =>
      if r36 = 0 then
        some (.inr (1001 + x1), M35)
      else
        nm (x1 + 1) fun v39 =>
        KL_X0_judged_57 n v39 M35
      else none
      else none
      else none
      else none
def KL_X0_judged_114 : Nat → Int32 → CM → Option ((Unit ⊕ Int32) × CM)
  | 0, _, _ => none
  | n + 1, x1, M =>
    if mI M 41 1 ≤ x1 then
      some (.inl (), M)
    else
      if inb x1 24 then
      if mk M (mX M 114 (ix x1)) = 18 then
      if mI M 3400 (mX M 114 (ix x1)) = 29 then
        nm (x1 + 1) fun v47 =>
        KL_X0_judged_114 n v47 M
      else
        if inb x1 24 then
        if mk M (mX M 114 (ix x1)) = 18 then
        if inb x1 24 then
        if mk M (mX M 114 (ix x1)) = 18 then
        ob (K_X0_fit (mR M 3405 (mX M 114 (ix x1))) (mR M 3406 (mX M 114 (ix x1))) M) fun r53 M52 =>
        if r53 = 0 then
          some (.inr (2001 + x1), M52)
        else
          nm (x1 + 1) fun v56 =>
          KL_X0_judged_114 n v56 M52
        else none
        else none
        else none
        else none
      else none
      else none
def KL_X0_judged_175 : Nat → Int32 → CM → Option ((Unit ⊕ Int32) × CM)
  | 0, _, _ => none
  | n + 1, x1, M =>
    if mI M 15 1 ≤ x1 then
      some (.inl (), M)
    else
      ob (K_J2_get 98 x1 M) fun r64 M63 =>
      if r64 = 0 ∨ mk M63 r64 = 17 then
      if mk M63 r64 = 17 then
      if mI M63 3203 r64 = 1 then
        ob (K_J2_get 98 x1 M63) fun r71 M70 =>
        if r71 = 0 ∨ mk M70 r71 = 17 then
        if mk M70 r71 = 17 then
        if mR M70 3210 r71 = 0 then
          nm (x1 + 1) fun v76 =>
          KL_X0_judged_175 n v76 M70
        else
          ob (K_J2_get 98 x1 M70) fun r78 M77 =>
          if r78 = 0 ∨ mk M77 r78 = 17 then
          if mk M77 r78 = 17 then
          ob (K_X0_fitsVar (mR M77 3210 r78) x1 M77) fun r84 M83 =>
          if r84 = 0 then
            some (.inr (3001 + x1), M83)
          else
            nm (x1 + 1) fun v87 =>
            KL_X0_judged_175 n v87 M83
          else none
          else none
        else none
        else none
      else
        nm (x1 + 1) fun v69 =>
        KL_X0_judged_175 n v69 M63
      else none
      else none
def KL_X0_judged_254 : Nat → Int32 → CM → Option ((Unit ⊕ Int32) × CM)
  | 0, _, _ => none
  | n + 1, x1, M =>
    if mI M 15 1 ≤ x1 then
      some (.inl (), M)
    else
      ob (K_J2_get 98 x1 M) fun r96 M95 =>
      if r96 = 0 ∨ mk M95 r96 = 17 then
      if mk M95 r96 = 17 then
      if mR M95 3211 r96 = 0 then
        nm (x1 + 1) fun v101 =>
        KL_X0_judged_254 n v101 M95
      else
        ob (K_J2_get 98 x1 M95) fun r103 M102 =>
        if r103 = 0 ∨ mk M102 r103 = 17 then
        if mk M102 r103 = 17 then
        ob (K_X0_fitsVar (mR M102 3211 r103) x1 M102) fun r109 M108 =>
        if r109 = 0 then
          some (.inr (4001 + x1), M108)
        else
          nm (x1 + 1) fun v112 =>
          KL_X0_judged_254 n v112 M108
        else none
        else none
      else none
      else none
def K_X0_judged (M : CM) : Option (Int32 × CM) :=
  obS (KL_X0_judged_2 FU 0 M) (fun r128 M21 => some (r128, M21)) fun q20 M21 =>
  obS (KL_X0_judged_57 FU 0 M21) (fun r126 M43 => some (r126, M43)) fun q42 M43 =>
  obS (KL_X0_judged_114 FU 0 M43) (fun r124 M61 => some (r124, M61)) fun q60 M61 =>
  obS (KL_X0_judged_175 FU 0 M61) (fun r122 M93 => some (r122, M93)) fun q92 M93 =>
  obS (KL_X0_judged_254 FU 0 M93) (fun r120 M117 => some (r120, M117)) fun q116 M117 =>
  some (0, M117)
def K_X0_judge (M : CM) : Option (Int32 × CM) :=
  if mI M 30 1 = 0 then
    some ((-4), M)
  else
    ob (K_X0_judged M) fun r3 M2 =>
    some (r3, M2)
def KL_X0_keep_69 : Nat → Int32 → CM → Option (Unit × CM)
  | 0, _, _ => none
  | n + 1, x1, M =>
    if mI M 15 1 ≤ x1 then
      some ((), M)
    else
      ob (K_J2_get 98 x1 M) fun r9 M8 =>
      if r9 = 0 ∨ mk M8 r9 = 17 then
      if mk M8 r9 = 17 then
      if inb x1 96 then
      nm (mwA M8 154 (ix x1) (mI M8 3213 r9)) fun M15 =>
      ob (K_J2_get 98 x1 M15) fun r17 M16 =>
      if r17 = 0 ∨ mk M16 r17 = 17 then
      if mk M16 r17 = 17 then
      if inb x1 96 then
      nm (mwA M16 155 (ix x1) (mI M16 3214 r17)) fun M23 =>
      nm (x1 + 1) fun v24 =>
      KL_X0_keep_69 n v24 M23
      else none
      else none
      else none
      else none
      else none
      else none
def KL_X0_keep_131 : Nat → Int32 → CM → Option (Unit × CM)
  | 0, _, _ => none
  | n + 1, x1, M =>
    if mI M 39 1 ≤ x1 then
      some ((), M)
    else
      ob (K_J2_get 113 x1 M) fun r30 M29 =>
      if r30 = 0 ∨ mk M29 r30 = 20 then
      if mk M29 r30 = 20 then
      if inb x1 12 then
      nm (mwA M29 157 (ix x1) (nZ (mI M29 3804 r30))) fun M37 =>
      nm (x1 + 1) fun v38 =>
      KL_X0_keep_131 n v38 M37
      else none
      else none
      else none
def K_X0_keep (M : CM) : Option (Unit × CM) :=
  nm (msI M 800 151 (mI M 85 1)) fun M1 =>
  if mk M1 124 = 50 ∧ mk M1 152 = 50 ∧ ¬ (0 : Int32) < 0 ∧ ¬ (0 : Int32) < 0 ∧ ¬ (180 : Int32) < 0 ∧ ix 0 + ix 180 ≤ ml M1 124 ∧ ix 0 + ix 180 ≤ ml M1 152 then
  nm (mcA M1 124 (ix 0) 152 (ix 0) (ix 180)) fun M3 =>
  if mk M3 125 = 50 ∧ mk M3 153 = 50 ∧ ¬ (0 : Int32) < 0 ∧ ¬ (0 : Int32) < 0 ∧ ¬ (180 : Int32) < 0 ∧ ix 0 + ix 180 ≤ ml M3 125 ∧ ix 0 + ix 180 ≤ ml M3 153 then
  nm (mcA M3 125 (ix 0) 153 (ix 0) (ix 180)) fun M5 =>
  if mk M5 148 = 52 ∧ mk M5 156 = 52 ∧ ¬ (0 : Int32) < 0 ∧ ¬ (0 : Int32) < 0 ∧ ¬ (24 : Int32) < 0 ∧ ix 0 + ix 24 ≤ ml M5 148 ∧ ix 0 + ix 24 ≤ ml M5 156 then
  nm (mcA M5 148 (ix 0) 156 (ix 0) (ix 24)) fun M7 =>
  ob (KL_X0_keep_69 FU 0 M7) fun q26 M27 =>
  ob (KL_X0_keep_131 FU 0 M27) fun q40 M41 =>
  some ((), M41)
  else none
  else none
  else none
def K_X0_slope (x1 : Int32) (x2 : Int32) (M : CM) : Option ((Int32 ⊕ Nat) × CM) :=
  if inb x1 180 then
  if inb (mA M 140 (ix x1)) 180 then
  if inb (mA M 121 (ix (mA M 140 (ix x1)))) 180 then
  nm (mA M 124 (ix (mA M 121 (ix (mA M 140 (ix x1)))))) fun v4 =>
  if mk M 124 = 50 ∧ mk M 165 = 50 ∧ ¬ (0 : Int32) < 0 ∧ ¬ (0 : Int32) < 0 ∧ ¬ (180 : Int32) < 0 ∧ ix 0 + ix 180 ≤ ml M 124 ∧ ix 0 + ix 180 ≤ ml M 165 then
  nm (mcA M 124 (ix 0) 165 (ix 0) (ix 180)) fun M6 =>
  if inb x2 180 then
  if inb x2 180 then
  if inb (mA M6 140 (ix x2)) 180 then
  obS (K_X19_in (((mA M6 124 (ix (mA M6 140 (ix x2)))).toInt64) + 64) M6) (fun w14 M10 =>
      some (.inr w14, M10))
  fun r11 M10 =>
  if inb (mA M6 140 (ix x2)) 180 then
  nm (mwA M10 124 (ix (mA M6 140 (ix x2))) r11) fun M16 =>
  obS (K_X0_solveBlocks M16) (fun w21 M17 =>
      some (.inr w21, M17))
  fun r18 M17 =>
  if inb x1 180 then
  if inb (mA M17 140 (ix x1)) 180 then
  if inb (mA M17 121 (ix (mA M17 140 (ix x1)))) 180 then
  obS (K_X19_in (((mA M17 124 (ix (mA M17 121 (ix (mA M17 140 (ix x1)))))).toInt64) - ((v4).toInt64)) M17) (fun w29 M25 =>
      some (.inr w29, M25))
  fun r26 M25 =>
  if mk M25 165 = 50 ∧ mk M25 124 = 50 ∧ ¬ (0 : Int32) < 0 ∧ ¬ (0 : Int32) < 0 ∧ ¬ (180 : Int32) < 0 ∧ ix 0 + ix 180 ≤ ml M25 165 ∧ ix 0 + ix 180 ≤ ml M25 124 then
  nm (mcA M25 165 (ix 0) 124 (ix 0) (ix 180)) fun M31 =>
  obS (K_X19_times r26 67108864 M31) (fun w36 M32 =>
      some (.inr w36, M32))
  fun r33 M32 =>
  some (.inl r33, M32)
  else none
  else none
  else none
  else none
  else none
  else none
  else none
  else none
  else none
  else none
  else none
  else none
def K_X0_linear (x1 : Int32) (x2 : Int32) (M : CM) : Option (Int64 × CM) :=
  if mI M 91 1 = 0 then
    some ((-4294967300), M)
  else
    if mI M 92 1 = 0 then
      if x1 < 0 then
        some ((-4294967298), M)
      else
        if x2 < 0 then
          some ((-4294967298), M)
        else
          if mI M 74 1 ≤ x1 then
            some ((-4294967298), M)
          else
            if x2 < mI M 74 1 then
              nm (mI M 90 1) fun v3 =>
              ob (K_X0_keep M) fun r5 M4 =>
              nm (msI M4 86 1 1) fun M8 =>
              obS (K_X0_slope x1 x2 M8) (fun w13 M9 =>
                  ob (K_X0_fails w13 M9) fun r15 M14 =>
                  nm ((-4294967296) + ((r15).toInt64)) fun v18 =>
                  ob (K_X0_back M14) fun r20 M19 =>
                  nm (msI M19 90 1 v3) fun M23 =>
                  some (v18, M23))
              fun r10 M9 =>
              nm ((r10).toInt64) fun v24 =>
              ob (K_X0_back M9) fun r26 M25 =>
              nm (msI M25 90 1 v3) fun M29 =>
              some (v24, M29)
            else
              some ((-4294967298), M)
    else
      some ((-4294967300), M)
def K_X2_isLetter (x1 : Int32) (M : CM) : Option (Int32 × CM) :=
  if x1 < 97 then
    some (0, M)
  else
    if 122 < x1 then
      some (0, M)
    else
      some (1, M)
def K_X2_byteAt (x1 : Int32) (M : CM) : Option (Int32 × CM) :=
  if mI M 1 1 ≤ x1 then
    some (0, M)
  else
    if inb x1 2000 then
    some (mA M 2 (ix x1), M)
    else none
def K_X2_isDigit (x1 : Int32) (M : CM) : Option (Int32 × CM) :=
  if x1 < 48 then
    some (0, M)
  else
    if 57 < x1 then
      some (0, M)
    else
      some (1, M)
def K_X2_token (x1 : Int32) (x2 : Int32) (x3 : Int32) (M : CM) : Option (Unit × CM) :=
  if inb (mI M 404 90) 2001 then
  nm (mwA M 91 (ix (mI M 404 90)) x1) fun M2 =>
  if inb (mI M2 404 90) 2001 then
  nm (mwA M2 92 (ix (mI M2 404 90)) x2) fun M4 =>
  if inb (mI M4 404 90) 2001 then
  nm (mwA M4 93 (ix (mI M4 404 90)) (nZ 0)) fun M6 =>
  if inb (mI M6 404 90) 2001 then
  nm (mwA M6 94 (ix (mI M6 404 90)) x3) fun M8 =>
  nm (msI M8 404 90 ((mI M8 404 90) + 1)) fun M9 =>
  some ((), M9)
  else none
  else none
  else none
  else none
def KL_X2_numeral_4 : Nat → Int32 → Int32 → Int64 → CM → Option ((Int32 × Int64) × CM)
  | 0, _, _, _, _ => none
  | n + 1, x1, x2, x3, M =>
    ob (K_X2_byteAt x2 M) fun r2 M1 =>
    ob (K_X2_isDigit r2 M1) fun r6 M5 =>
    if r6 = 0 then
      some ((x2, x3), M5)
    else
      if 6 ≤ x2 - x1 then
        some ((x2, x3), M5)
      else
        if inb x2 2000 then
        nm (((10 * x3) + ((mA M5 2 (ix x2)).toInt64)) - 48) fun v10 =>
        nm (x2 + 1) fun v11 =>
        KL_X2_numeral_4 n x1 v11 v10 M5
        else none
def KJ_X2_numeral_220 (x1 : Int32) (x2 : Int32) (x3 : Int64) (x6 : Int32) (x7 : Int64) (x9 : Int64) (M : CM) : Option (Int32 × CM) :=
  if ¬ x9 = 0 then
  ob (K_X2_token 2 (((65536 * x3) + ((x7 * 65536) / x9)).toInt32) x1 M) fun r31 M30 =>
  if inb ((mI M30 404 90) - 1) 2001 then
  nm (mwA M30 93 (ix ((mI M30 404 90) - 1)) (nZ x6)) fun M35 =>
  some (x2, M35)
  else none
  else none
def KJ_X2_numeral_183 (x1 : Int32) (x2 : Int32) (x3 : Int64) (x5 : Int32) (x6 : Int32) (x7 : Int64) (x9 : Int64) (M : CM) : Option (Int32 × CM) :=
  if x5 = 0 then
    if 0 < lg_cmp x3 32767 then
      ob (K_X2_token 3 0 x1 M) fun r26 M25 =>
      some ((-1), M25)
    else
      if lg_cmp x3 32767 = 0 then
        if lg_cmp x7 0 ≤ 0 then
          KJ_X2_numeral_220 x1 x2 x3 x6 x7 x9 M
        else
          ob (K_X2_token 3 0 x1 M) fun r37 M36 =>
          some ((-1), M36)
      else
        KJ_X2_numeral_220 x1 x2 x3 x6 x7 x9 M
  else
    ob (K_X2_token 3 0 x1 M) fun r22 M21 =>
    some ((-1), M21)
def KL_X2_numeral_104 : Nat → Int32 → Int32 → Int64 → Int32 → Int32 → Int64 → Int64 → CM → Option ((Int32 × Int64 × Int64) × CM)
  | 0, _, _, _, _, _, _, _, _ => none
  | n + 1, x1, x2, x3, x5, x6, x7, x9, M =>
    ob (K_X2_byteAt x2 M) fun r54 M53 =>
    ob (K_X2_isDigit r54 M53) fun r58 M57 =>
    if r58 = 0 then
      some ((x2, x7, x9), M57)
    else
      if 0 ≤ lg_cmp x9 100000 then
        some ((x2, x7, x9), M57)
      else
        if inb x2 2000 then
        nm (((10 * x7) + ((mA M57 2 (ix x2)).toInt64)) - 48) fun v62 =>
        nm (x9 * 10) fun v63 =>
        nm (x2 + 1) fun v64 =>
        KL_X2_numeral_104 n x1 v64 x3 x5 x6 v62 v63 M57
        else none
def KJ_X2_numeral_181 (x1 : Int32) (x2 : Int32) (x3 : Int64) (x6 : Int32) (x7 : Int64) (x9 : Int64) (y0 : Int32) (M : CM) : Option (Int32 × CM) :=
  KJ_X2_numeral_183 x1 x2 x3 y0 x6 x7 x9 M
def KJ_X2_numeral_176 (x1 : Int32) (x2 : Int32) (x3 : Int64) (x6 : Int32) (x7 : Int64) (x9 : Int64) (M : CM) : Option (Int32 × CM) :=
  KJ_X2_numeral_181 x1 x2 x3 x6 x7 x9 1 M
def KJ_X2_numeral_162 (x1 : Int32) (x2 : Int32) (x3 : Int64) (x5 : Int32) (x6 : Int32) (x7 : Int64) (x9 : Int64) (M : CM) : Option (Int32 × CM) :=
  if x5 = 0 then
    if lg_cmp x9 10000 ≤ 0 then
      KJ_X2_numeral_181 x1 x2 x3 x6 x7 x9 0 M
    else
      KJ_X2_numeral_176 x1 x2 x3 x6 x7 x9 M
  else
    KJ_X2_numeral_176 x1 x2 x3 x6 x7 x9 M
def KJ_X2_numeral_63 (x1 : Int32) (x2 : Int32) (x3 : Int64) (y0 : Int32) (M : CM) : Option (Int32 × CM) :=
  ob (K_X2_byteAt x2 M) fun r18 M17 =>
  if r18 = 46 then
    ob (K_X2_byteAt (x2 + 1) M17) fun r45 M44 =>
    ob (K_X2_isDigit r45 M44) fun r49 M48 =>
    if r49 = 0 then
      KJ_X2_numeral_183 x1 x2 x3 y0 1 0 1 M48
    else
      nm (x2 + 1) fun v52 =>
      ob (KL_X2_numeral_104 FU x1 v52 x3 y0 0 0 1 M48) fun q67 M68 =>
      KJ_X2_numeral_162 x1 q67.1 x3 y0 0 q67.2.1 q67.2.2 M68
  else
    KJ_X2_numeral_183 x1 x2 x3 y0 1 0 1 M17
def KJ_X2_numeral_51 (x1 : Int32) (x2 : Int32) (x3 : Int64) (M : CM) : Option (Int32 × CM) :=
  if x2 - x1 ≤ 5 then
    KJ_X2_numeral_63 x1 x2 x3 0 M
  else
    KJ_X2_numeral_63 x1 x2 x3 1 M
def K_X2_numeral (x1 : Int32) (M : CM) : Option (Int32 × CM) :=
  ob (KL_X2_numeral_4 FU x1 x1 0 M) fun q14 M15 =>
  KJ_X2_numeral_51 x1 q14.1 q14.2 M15
def KJ_X2_tokens_242_7 (rec : Int32 → CM → Option ((Unit ⊕ Unit) × CM)) (x1 : Int32) (x2 : Int32) (x3 : Int32) (y0 : Int32) (M : CM) : Option ((Unit ⊕ Unit) × CM) :=
  if isStr M 2199023255584 then
  ob (K_J3_indexOf 2199023255584 x2 M) fun r21 M20 =>
  if 0 ≤ r21 then
    if y0 = 0 then
      ob (K_X2_token x2 0 x1 M20) fun r25 M24 =>
      if y0 = 0 then
        nm (x1 + 1) fun v28 =>
        rec v28 M24
      else
        nm (x1 + 2) fun v29 =>
        rec v29 M24
    else
      ob (K_X2_token ((256 * x2) + x3) 0 x1 M20) fun r32 M31 =>
      if y0 = 0 then
        nm (x1 + 1) fun v35 =>
        rec v35 M31
      else
        nm (x1 + 2) fun v36 =>
        rec v36 M31
  else
    ob (K_X2_token 3 0 x1 M20) fun r40 M39 =>
    some (.inr (), M39)
  else none
def KJ_X2_tokens_241_7 (rec : Int32 → CM → Option ((Unit ⊕ Unit) × CM)) (x1 : Int32) (x2 : Int32) (x3 : Int32) (M : CM) : Option ((Unit ⊕ Unit) × CM) :=
  KJ_X2_tokens_242_7 rec x1 x2 x3 0 M
def KJ_X2_tokens_237_7 (rec : Int32 → CM → Option ((Unit ⊕ Unit) × CM)) (x1 : Int32) (x2 : Int32) (x3 : Int32) (M : CM) : Option ((Unit ⊕ Unit) × CM) :=
  KJ_X2_tokens_242_7 rec x1 x2 x3 1 M
def KJ_X2_tokens_225_7 (rec : Int32 → CM → Option ((Unit ⊕ Unit) × CM)) (x1 : Int32) (x2 : Int32) (x3 : Int32) (M : CM) : Option ((Unit ⊕ Unit) × CM) :=
  if x2 = 61 then
    if x3 = 61 then
      KJ_X2_tokens_237_7 rec x1 x2 x3 M
    else
      KJ_X2_tokens_241_7 rec x1 x2 x3 M
  else
    KJ_X2_tokens_241_7 rec x1 x2 x3 M
def KJ_X2_tokens_213_7 (rec : Int32 → CM → Option ((Unit ⊕ Unit) × CM)) (x1 : Int32) (x2 : Int32) (x3 : Int32) (M : CM) : Option ((Unit ⊕ Unit) × CM) :=
  if x2 = 62 then
    if x3 = 61 then
      KJ_X2_tokens_237_7 rec x1 x2 x3 M
    else
      KJ_X2_tokens_225_7 rec x1 x2 x3 M
  else
    KJ_X2_tokens_225_7 rec x1 x2 x3 M
def KL_X2_tokens_68 : Nat → Int32 → Int32 → CM → Option (Int32 × CM)
  | 0, _, _, _ => none
  | n + 1, x1, x3, M =>
    ob (K_X2_byteAt x1 M) fun r58 M57 =>
    ob (K_X2_isLetter r58 M57) fun r62 M61 =>
    if r62 = 0 then
      ob (K_X2_byteAt x1 M61) fun r67 M66 =>
      ob (K_X2_isDigit r67 M66) fun r71 M70 =>
      if r71 = 0 then
        ob (K_X2_byteAt x1 M70) fun r76 M75 =>
        if r76 = 95 then
          nm (x1 + 1) fun v79 =>
          KL_X2_tokens_68 n v79 x3 M75
        else
          some (x1, M75)
      else
        nm (x1 + 1) fun v74 =>
        KL_X2_tokens_68 n v74 x3 M70
    else
      nm (x1 + 1) fun v65 =>
      KL_X2_tokens_68 n v65 x3 M61
def KJ_X2_tokens_139_7 (rec : Int32 → CM → Option ((Unit ⊕ Unit) × CM)) (x1 : Int32) (x3 : Int32) (y0 : Nat) (y1 : Nat) (y2 : Int32) (y3 : Int32) (y4 : Int32) (M : CM) : Option ((Unit ⊕ Unit) × CM) :=
  if y0 = 4 ∧ mk M y0 = 2 then
  ob (K_X1_of y1 y2 y3 y4 M) fun r88 M87 =>
  if 0 ≤ r88 then
    ob (K_X2_token 1 r88 x3 M87) fun r92 M91 =>
    rec x1 M91
  else
    ob (K_X2_token 3 0 x3 M87) fun r96 M95 =>
    some (.inr (), M95)
  else none
def KL_X2_tokens_7 : Nat → Int32 → CM → Option ((Unit ⊕ Unit) × CM)
  | 0, _, _ => none
  | n + 1, x1, M =>
    if mI M 1 1 ≤ x1 then
      some (.inl (), M)
    else
      if inb x1 2000 then
      nm (mA M 2 (ix x1)) fun v3 =>
      if v3 = 32 then
        nm (x1 + 1) fun v4 =>
        KL_X2_tokens_7 n v4 M
      else
        if v3 = 9 then
          nm (x1 + 1) fun v5 =>
          KL_X2_tokens_7 n v5 M
        else
          if v3 = 10 then
            nm (x1 + 1) fun v6 =>
            KL_X2_tokens_7 n v6 M
          else
            if v3 = 13 then
              nm (x1 + 1) fun v103 =>
              KL_X2_tokens_7 n v103 M
            else
              ob (K_X2_isLetter v3 M) fun r8 M7 =>
              if r8 = 0 then
                ob (K_X2_isDigit v3 M7) fun r12 M11 =>
                if r12 = 0 then
                  ob (K_X2_byteAt (x1 + 1) M11) fun r16 M15 =>
                  if v3 = 60 then
                    if r16 = 61 then
                      KJ_X2_tokens_237_7 (KL_X2_tokens_7 n) x1 v3 r16 M15
                    else
                      if r16 = 62 then
                        KJ_X2_tokens_237_7 (KL_X2_tokens_7 n) x1 v3 r16 M15
                      else
                        KJ_X2_tokens_213_7 (KL_X2_tokens_7 n) x1 v3 r16 M15
                  else
                    KJ_X2_tokens_213_7 (KL_X2_tokens_7 n) x1 v3 r16 M15
                else
                  ob (K_X2_numeral x1 M11) fun r52 M51 =>
                  if 0 ≤ r52 then
                    KL_X2_tokens_7 n r52 M51
                  else
                    some (.inr (), M51)
              else
                ob (KL_X2_tokens_68 FU x1 x1 M7) fun q83 M84 =>
                if 8 < q83 - x1 then
                  KJ_X2_tokens_139_7 (KL_X2_tokens_7 n) q83 x1 4 2 x1 (q83 - x1) 0 M84
                else
                  KJ_X2_tokens_139_7 (KL_X2_tokens_7 n) q83 x1 4 2 x1 (q83 - x1) 1 M84
      else none
def K_X2_tokens (M : CM) : Option (Unit × CM) :=
  nm (msI M 404 90 0) fun M1 =>
  obS (KL_X2_tokens_7 FU 0 M1) (fun r117 M110 => some (r117, M110)) fun q109 M110 =>
  ob (K_X2_token 4 0 (mI M110 1 1) M110) fun r113 M112 =>
  some ((), M112)
def K_X2_isKey (x1 : Int32) (M : CM) : Option (Int32 × CM) :=
  if inb (mI M 405 90) 2001 then
  if mA M 91 (ix (mI M 405 90)) = 1 then
    if inb (mI M 405 90) 2001 then
    if mA M 92 (ix (mI M 405 90)) = x1 then
      some (1, M)
    else
      some (0, M)
    else none
  else
    some (0, M)
  else none
def K_X2_takeKey (x1 : Int32) (M : CM) : Option (Int32 × CM) :=
  ob (K_X2_isKey x1 M) fun r2 M1 =>
  if r2 = 0 then
    some (0, M1)
  else
    nm (msI M1 405 90 ((mI M1 405 90) + 1)) fun M5 =>
    some (1, M5)
def K_X6_init (x0 : Nat) (M : CM) : Option (Unit × CM) :=
  if ¬ x0 = 0 then
  if mn M ≤ 601024 ∧ ms M + 3 ≤ 7293034 then
  nm (mn M) fun v3 =>
  nm (mnew M 22 0 3) fun M4 =>
  if ¬ v3 = 0 then
  ob (K_J2_init v3 M4) fun r7 M6 =>
  if mk M6 x0 = 6 then
  nm (msR M6 1001 x0 v3) fun M11 =>
  some ((), M11)
  else none
  else none
  else none
  else none
def K_X1_isKey (x1 : Int32) (M : CM) : Option (Int32 × CM) :=
  ob (K_J2_size 5 M) fun r2 M1 =>
  if r2 ≤ x1 then
    some (0, M1)
  else
    some (1, M1)
def K_X2_isName (M : CM) : Option (Int32 × CM) :=
  if inb (mI M 405 90) 2001 then
  if mA M 91 (ix (mI M 405 90)) = 1 then
    if inb (mI M 405 90) 2001 then
    ob (K_X1_isKey (mA M 92 (ix (mI M 405 90))) M) fun r4 M3 =>
    if r4 = 0 then
      some (1, M3)
    else
      some (0, M3)
    else none
  else
    some (0, M)
  else none
def K_X2_stop (M : CM) : Option (Nat × CM) :=
  if inb (mI M 405 90) 2001 then
  if mA M 91 (ix (mI M 405 90)) = 3 then
    if inb (mI M 405 90) 2001 then
    ob (K_X0_wrong 1 (mA M 94 (ix (mI M 405 90))) M) fun r9 M8 =>
    some (r9, M8)
    else none
  else
    if inb (mI M 405 90) 2001 then
    ob (K_X0_wrong 2 (mA M 94 (ix (mI M 405 90))) M) fun r4 M3 =>
    some (r4, M3)
    else none
  else none
def K_X2_name (M : CM) : Option ((Int32 ⊕ Nat) × CM) :=
  ob (K_X2_isName M) fun r2 M1 =>
  if r2 = 0 then
    ob (K_X2_stop M1) fun r8 M7 =>
    if mk M7 r8 = 7 then
    some (.inr r8, M7)
    else none
  else
    nm (msI M1 405 90 ((mI M1 405 90) + 1)) fun M5 =>
    if inb ((mI M5 405 90) - 1) 2001 then
    some (.inl (mA M5 92 (ix ((mI M5 405 90) - 1))), M5)
    else none
def KL_X2_functionOf_2 : Nat → Int32 → Int32 → CM → Option ((Unit ⊕ Nat) × CM)
  | 0, _, _, _ => none
  | n + 1, x1, x2, M =>
    ob (K_J2_size 89 M) fun r2 M1 =>
    if r2 ≤ x2 then
      some (.inl (), M1)
    else
      ob (K_J2_get 89 x2 M1) fun r6 M5 =>
      if r6 = 0 ∨ mk M5 r6 = 6 then
      if mk M5 r6 = 6 then
      if mI M5 1000 r6 = x1 then
        ob (K_J2_get 89 x2 M5) fun r13 M12 =>
        if r13 = 0 ∨ mk M12 r13 = 6 then
        some (.inr r13, M12)
        else none
      else
        nm (x2 + 1) fun v11 =>
        KL_X2_functionOf_2 n x1 v11 M5
      else none
      else none
def KL_X2_functionOf_60 : Nat → Int32 → Int32 → CM → Option ((Unit ⊕ Nat) × CM)
  | 0, _, _, _ => none
  | n + 1, x1, x2, M =>
    ob (K_J2_size 96 M) fun r23 M22 =>
    if r23 ≤ x2 then
      some (.inl (), M22)
    else
      ob (K_J2_get 96 x2 M22) fun r27 M26 =>
      if r27 = 0 ∨ mk M26 r27 = 6 then
      if mk M26 r27 = 6 then
      if mI M26 1000 r27 = x1 then
        ob (K_J2_get 96 x2 M26) fun r34 M33 =>
        if r34 = 0 ∨ mk M33 r34 = 6 then
        some (.inr r34, M33)
        else none
      else
        nm (x2 + 1) fun v32 =>
        KL_X2_functionOf_60 n x1 v32 M26
      else none
      else none
def K_X2_functionOf (x1 : Int32) (M : CM) : Option (Nat × CM) :=
  obS (KL_X2_functionOf_2 FU x1 0 M) (fun r46 M20 => some (r46, M20)) fun q19 M20 =>
  obS (KL_X2_functionOf_60 FU x1 0 M20) (fun r44 M41 => some (r44, M41)) fun q40 M41 =>
  some (0, M41)
def KL_X2_newName_44 : Nat → Int32 → Int32 → Int32 → Int32 → Int32 → CM → Option (Int32 × CM)
  | 0, _, _, _, _, _, _ => none
  | n + 1, x1, x2, x3, x4, x5, M =>
    ob (K_J2_size 97 M) fun r13 M12 =>
    if r13 ≤ x5 then
      some (x4, M12)
    else
      ob (K_J2_get 97 x5 M12) fun r17 M16 =>
      if r17 = 0 ∨ mk M16 r17 = 10 then
      if mk M16 r17 = 10 then
      if mI M16 1800 r17 = x3 then
        nm (x4 ||| 1) fun v24 =>
        nm (x5 + 1) fun v25 =>
        KL_X2_newName_44 n x1 x2 x3 v24 v25 M16
      else
        nm (x4 ||| 0) fun v22 =>
        nm (x5 + 1) fun v23 =>
        KL_X2_newName_44 n x1 x2 x3 v22 v23 M16
      else none
      else none
def KJ_X2_newName_39 (x1 : Int32) (x2 : Int32) (x3 : Int32) (y0 : Int32) (M : CM) : Option ((Int32 ⊕ Nat) × CM) :=
  ob (KL_X2_newName_44 FU x1 x2 x3 y0 0 M) fun q28 M29 =>
  if q28 = 0 then
    if x1 = 0 then
      some (.inl x3, M29)
    else
      if q28 = 0 then
        ob (K_X0_wrong 7 x2 M29) fun r44 M43 =>
        if mk M43 r44 = 7 then
        some (.inr r44, M43)
        else none
      else
        ob (K_X0_wrong 3 x2 M29) fun r49 M48 =>
        if mk M48 r49 = 7 then
        some (.inr r49, M48)
        else none
  else
    if q28 = 0 then
      ob (K_X0_wrong 7 x2 M29) fun r33 M32 =>
      if mk M32 r33 = 7 then
      some (.inr r33, M32)
      else none
    else
      ob (K_X0_wrong 3 x2 M29) fun r38 M37 =>
      if mk M37 r38 = 7 then
      some (.inr r38, M37)
      else none
def KJ_X2_newName_34 (x1 : Int32) (x2 : Int32) (x3 : Int32) (M : CM) : Option ((Int32 ⊕ Nat) × CM) :=
  KJ_X2_newName_39 x1 x2 x3 1 M
def K_X2_newName (x1 : Int32) (M : CM) : Option ((Int32 ⊕ Nat) × CM) :=
  if inb (mI M 405 90) 2001 then
  nm (mA M 94 (ix (mI M 405 90))) fun v2 =>
  obS (K_X2_name M) (fun w7 M3 =>
      some (.inr w7, M3))
  fun r4 M3 =>
  ob (K_X2_functionOf r4 M3) fun r9 M8 =>
  if r9 = 0 then
    ob (K_X0_model r4 M8) fun r58 M57 =>
    if r58 = 0 then
      KJ_X2_newName_39 x1 v2 r4 0 M57
    else
      KJ_X2_newName_34 x1 v2 r4 M57
  else
    KJ_X2_newName_34 x1 v2 r4 M8
  else none
def K_X2_isSign (x1 : Int32) (M : CM) : Option (Int32 × CM) :=
  if inb (mI M 405 90) 2001 then
  if mA M 91 (ix (mI M 405 90)) = x1 then
    some (1, M)
  else
    some (0, M)
  else none
def K_X2_take (x1 : Int32) (M : CM) : Option (Int32 × CM) :=
  ob (K_X2_isSign x1 M) fun r2 M1 =>
  if r2 = 0 then
    some (0, M1)
  else
    nm (msI M1 405 90 ((mI M1 405 90) + 1)) fun M5 =>
    some (1, M5)
def K_X2_sign (x1 : Int32) (M : CM) : Option ((Unit ⊕ Nat) × CM) :=
  ob (K_X2_take x1 M) fun r2 M1 =>
  if r2 = 0 then
    ob (K_X2_stop M1) fun r6 M5 =>
    if mk M5 r6 = 7 then
    some (.inr r6, M5)
    else none
  else
    some (.inl (), M1)
def KL_X2_argument_2 : Nat → Int32 → Int32 → CM → Option ((Unit ⊕ Int32) × CM)
  | 0, _, _, _ => none
  | n + 1, x1, x2, M =>
    if mR M 408 90 = 0 then
      some (.inl (), M)
    else
      if mk M (mR M 408 90) = 6 then
      if mk M (mR M 1001 (mR M 408 90)) = 22 then
      ob (K_J2_size (mR M 1001 (mR M 408 90)) M) fun r4 M3 =>
      if r4 ≤ x2 then
        some (.inl (), M3)
      else
        if mk M3 (mR M3 408 90) = 6 then
        if mk M3 (mR M3 1001 (mR M3 408 90)) = 22 then
        ob (K_J2_get (mR M3 1001 (mR M3 408 90)) x2 M3) fun r10 M9 =>
        if r10 = 0 ∨ mk M9 r10 = 23 ∨ (1099511627776 ≤ r10 ∧ r10 < 1099511628032) then
        if mk M9 r10 = 23 ∨ (1099511627776 ≤ r10 ∧ r10 < 1099511628032) then
        ob (K_J16_intValue r10 M9) fun r16 M15 =>
        if r16 = x1 then
          some (.inr x2, M15)
        else
          nm (x2 + 1) fun v19 =>
          KL_X2_argument_2 n x1 v19 M15
        else none
        else none
        else none
        else none
      else none
      else none
def K_X2_argument (x1 : Int32) (M : CM) : Option (Int32 × CM) :=
  obS (KL_X2_argument_2 FU x1 0 M) (fun r27 M24 => some (r27, M24)) fun q23 M24 =>
  some ((-1), M24)
def K_X8_init (x0 : Nat) (x1 : Int32) (M : CM) : Option (Unit × CM) :=
  if ¬ x0 = 0 then
  if mk M x0 = 8 then
  nm (msI M 1400 x0 x1) fun M3 =>
  some ((), M3)
  else none
  else none
def K_X2_deeper (x1 : Int32) (M : CM) : Option ((Unit ⊕ Nat) × CM) :=
  nm (msI M 406 90 ((mI M 406 90) + 1)) fun M1 =>
  if mI M1 406 90 ≤ 16 then
    some (.inl (), M1)
  else
    ob (K_X0_wrong 7 x1 M1) fun r3 M2 =>
    if mk M2 r3 = 7 then
    some (.inr r3, M2)
    else none
def K_X2_opens (M : CM) : Option ((Unit ⊕ Nat) × CM) :=
  if inb (mI M 405 90) 2001 then
  nm (mA M 94 (ix (mI M 405 90))) fun v2 =>
  obS (K_X2_sign 40 M) (fun w7 M3 =>
      some (.inr w7, M3))
  fun r4 M3 =>
  obS (K_X2_deeper v2 M3) (fun w12 M8 =>
      some (.inr w12, M8))
  fun r9 M8 =>
  some (.inl (), M8)
  else none
def K_X2_closes (M : CM) : Option ((Unit ⊕ Nat) × CM) :=
  obS (K_X2_sign 41 M) (fun w5 M1 =>
      some (.inr w5, M1))
  fun r2 M1 =>
  nm (msI M1 406 90 ((mI M1 406 90) - 1)) fun M6 =>
  some (.inl (), M6)
def KL_X2_isLoop_2 : Nat → Int32 → Int32 → CM → Option ((Unit ⊕ Int32) × CM)
  | 0, _, _, _ => none
  | n + 1, x1, x2, M =>
    ob (K_J2_size 95 M) fun r2 M1 =>
    if r2 ≤ x2 then
      some (.inl (), M1)
    else
      ob (K_J2_get 95 x2 M1) fun r6 M5 =>
      if r6 = 0 ∨ mk M5 r6 = 23 ∨ (1099511627776 ≤ r6 ∧ r6 < 1099511628032) then
      if mk M5 r6 = 23 ∨ (1099511627776 ≤ r6 ∧ r6 < 1099511628032) then
      ob (K_J16_intValue r6 M5) fun r12 M11 =>
      if r12 = x1 then
        some (.inr 1, M11)
      else
        nm (x2 + 1) fun v15 =>
        KL_X2_isLoop_2 n x1 v15 M11
      else none
      else none
def K_X2_isLoop (x1 : Int32) (M : CM) : Option (Int32 × CM) :=
  obS (KL_X2_isLoop_2 FU x1 0 M) (fun r22 M19 => some (r22, M19)) fun q18 M19 =>
  some (0, M19)
def K_X9_init (x0 : Nat) (x1 : Int32) (M : CM) : Option (Unit × CM) :=
  if ¬ x0 = 0 then
  if mk M x0 = 9 then
  nm (msI M 1602 x0 (-1)) fun M3 =>
  if mk M3 x0 = 9 then
  nm (msI M3 1600 x0 x1) fun M5 =>
  some ((), M5)
  else none
  else none
  else none
def K_X2_number (x1 : Int32) (x2 : Int32) (M : CM) : Option ((Int32 ⊕ Nat) × CM) :=
  if inb (mI M 405 90) 2001 then
  if mA M 91 (ix (mI M 405 90)) = 2 then
    if inb (mI M 405 90) 2001 then
    if mA M 93 (ix (mI M 405 90)) = 0 then
      ob (K_X2_stop M) fun r10 M9 =>
      if mk M9 r10 = 7 then
      some (.inr r10, M9)
      else none
    else
      if inb (mI M 405 90) 2001 then
      if (mA M 92 (ix (mI M 405 90))) / 65536 < x1 then
        ob (K_X2_stop M) fun r16 M15 =>
        if mk M15 r16 = 7 then
        some (.inr r16, M15)
        else none
      else
        if inb (mI M 405 90) 2001 then
        if (mA M 92 (ix (mI M 405 90))) / 65536 ≤ x2 then
          nm (msI M 405 90 ((mI M 405 90) + 1)) fun M21 =>
          if inb ((mI M21 405 90) - 1) 2001 then
          some (.inl ((mA M21 92 (ix ((mI M21 405 90) - 1))) / 65536), M21)
          else none
        else
          ob (K_X2_stop M) fun r24 M23 =>
          if mk M23 r24 = 7 then
          some (.inr r24, M23)
          else none
        else none
      else none
    else none
  else
    ob (K_X2_stop M) fun r3 M2 =>
    if mk M2 r3 = 7 then
    some (.inr r3, M2)
    else none
  else none
def KJ_X2_index_102 (x1 : Nat) (x2 : Int32) (M : CM) : Option ((Unit ⊕ Nat) × CM) :=
  nm (msI M 405 90 ((mI M 405 90) + 1)) fun M26 =>
  obS (K_X2_number 0 32767 M26) (fun w31 M27 =>
      some (.inr w31, M27))
  fun r28 M27 =>
  if x2 = 0 then
    if mk M27 x1 = 9 then
    nm (msI M27 1603 x1 r28) fun M33 =>
    some (.inl (), M33)
    else none
  else
    if mk M27 x1 = 9 then
    nm (msI M27 1603 x1 (-r28)) fun M35 =>
    some (.inl (), M35)
    else none
def K_X2_index (x1 : Nat) (M : CM) : Option ((Unit ⊕ Nat) × CM) :=
  if mk M x1 = 9 then
  nm (msI M 1601 x1 1) fun M2 =>
  if inb (mI M2 405 90) 2001 then
  if mA M2 91 (ix (mI M2 405 90)) = 2 then
    obS (K_X2_number 0 32767 M2) (fun w54 M50 =>
        some (.inr w54, M50))
    fun r51 M50 =>
    if mk M50 x1 = 9 then
    nm (msI M50 1603 x1 r51) fun M56 =>
    some (.inl (), M56)
    else none
  else
    ob (K_X2_isName M2) fun r5 M4 =>
    if r5 = 0 then
      ob (K_X2_stop M4) fun r9 M8 =>
      if mk M8 r9 = 7 then
      some (.inr r9, M8)
      else none
    else
      if inb (mI M4 405 90) 2001 then
      ob (K_X2_isLoop (mA M4 92 (ix (mI M4 405 90))) M4) fun r15 M14 =>
      if r15 = 0 then
        ob (K_X2_stop M14) fun r44 M43 =>
        if mk M43 r44 = 7 then
        some (.inr r44, M43)
        else none
      else
        if inb (mI M14 405 90) 2001 then
        if mk M14 x1 = 9 then
        nm (msI M14 1602 x1 (mA M14 92 (ix (mI M14 405 90)))) fun M20 =>
        nm (msI M20 405 90 ((mI M20 405 90) + 1)) fun M21 =>
        ob (K_X2_isSign 45 M21) fun r23 M22 =>
        if r23 = 0 then
          ob (K_X2_isSign 43 M22) fun r38 M37 =>
          if r38 = 0 then
            some (.inl (), M37)
          else
            KJ_X2_index_102 x1 r23 M37
        else
          KJ_X2_index_102 x1 r23 M22
        else none
        else none
      else none
  else none
  else none
def KL_X2_ref_21 : Nat → Nat → CM → Option ((Unit ⊕ (Nat ⊕ Nat)) × CM)
  | 0, _, _ => none
  | n + 1, x1, M =>
    if mn M ≤ 601024 ∧ ms M + 4 ≤ 7293034 then
    nm (mn M) fun v20 =>
    nm (mnew M 9 0 4) fun M21 =>
    obS (K_X2_name M21) (fun w26 M22 =>
        some (.inr (.inr w26), M22))
    fun r23 M22 =>
    if ¬ v20 = 0 then
    ob (K_X9_init v20 r23 M22) fun r29 M28 =>
    if mk M28 x1 = 8 then
    if mk M28 (mR M28 1405 x1) = 22 then
    ob (K_J2_add (mR M28 1405 x1) v20 M28) fun r35 M34 =>
    ob (K_X2_take 91 M34) fun r39 M38 =>
    if r39 = 0 then
      ob (K_X2_take 46 M38) fun r43 M42 =>
      if r43 = 0 then
        some (.inl (), M42)
      else
        KL_X2_ref_21 n x1 M42
    else
      obS (K_X2_index v20 M38) (fun w51 M47 =>
          some (.inr (.inr w51), M47))
      fun r48 M47 =>
      obS (K_X2_sign 93 M47) (fun w56 M52 =>
          some (.inr (.inr w56), M52))
      fun r53 M52 =>
      ob (K_X2_take 46 M52) fun r58 M57 =>
      if r58 = 0 then
        some (.inl (), M57)
      else
        KL_X2_ref_21 n x1 M57
    else none
    else none
    else none
    else none
def K_X2_ref (M : CM) : Option ((Nat ⊕ Nat) × CM) :=
  if mn M ≤ 601024 ∧ ms M + 8 ≤ 7293034 then
  nm (mn M) fun v2 =>
  nm (mnew M 8 0 8) fun M3 =>
  if ¬ v2 = 0 then
  ob (K_X8_init v2 101 M3) fun r6 M5 =>
  if mn M5 ≤ 601024 ∧ ms M5 + 3 ≤ 7293034 then
  nm (mn M5) fun v10 =>
  nm (mnew M5 22 0 3) fun M11 =>
  if ¬ v10 = 0 then
  ob (K_J2_init v10 M11) fun r14 M13 =>
  if mk M13 v2 = 8 then
  nm (msR M13 1405 v2 v10) fun M18 =>
  obS (KL_X2_ref_21 FU v2 M18) (fun r67 M64 => some (r67, M64)) fun q63 M64 =>
  some (.inl v2, M64)
  else none
  else none
  else none
  else none
  else none
def K_X8_init_2 (x0 : Nat) (x1 : Int32) (x2 : Nat) (x3 : Nat) (x4 : Nat) (M : CM) : Option (Unit × CM) :=
  if ¬ x0 = 0 then
  if mk M x0 = 8 then
  nm (msI M 1400 x0 x1) fun M3 =>
  if mk M3 x0 = 8 then
  nm (msR M3 1402 x0 x2) fun M5 =>
  if mk M5 x0 = 8 then
  nm (msR M5 1403 x0 x3) fun M7 =>
  if mk M7 x0 = 8 then
  nm (msR M7 1404 x0 x4) fun M9 =>
  some ((), M9)
  else none
  else none
  else none
  else none
  else none
def K_X2_atLeast (x1 : Int32) (M : CM) : Option ((Int32 ⊕ Nat) × CM) :=
  if inb (mI M 405 90) 2001 then
  if mA M 91 (ix (mI M 405 90)) = 2 then
    if inb (mI M 405 90) 2001 then
    if x1 ≤ mA M 92 (ix (mI M 405 90)) then
      nm (msI M 405 90 ((mI M 405 90) + 1)) fun M8 =>
      if inb ((mI M8 405 90) - 1) 2001 then
      some (.inl (mA M8 92 (ix ((mI M8 405 90) - 1))), M8)
      else none
    else
      ob (K_X2_stop M) fun r11 M10 =>
      if mk M10 r11 = 7 then
      some (.inr r11, M10)
      else none
    else none
  else
    ob (K_X2_stop M) fun r3 M2 =>
    if mk M2 r3 = 7 then
    some (.inr r3, M2)
    else none
  else none
def K_X2_relation (M : CM) : Option (Int32 × CM) :=
  if inb (mI M 405 90) 2001 then
  if mA M 91 (ix (mI M 405 90)) = 60 then
    some (110, M)
  else
  if mA M 91 (ix (mI M 405 90)) = 62 then
    some (111, M)
  else
  if mA M 91 (ix (mI M 405 90)) = 15421 then
    some (112, M)
  else
  if mA M 91 (ix (mI M 405 90)) = 15422 then
    some (115, M)
  else
  if mA M 91 (ix (mI M 405 90)) = 15677 then
    some (114, M)
  else
  if mA M 91 (ix (mI M 405 90)) = 15933 then
    some (113, M)
  else
  some ((-1), M)
  else none
def KJ_X2_beginsCondition_47_7 (rec : Int32 → Int32 → CM → Option ((Unit ⊕ Int32) × CM)) (x2 : Int32) (y0 : Int32) (y1 : Int32) (M : CM) : Option ((Unit ⊕ Int32) × CM) :=
  nm (y0 + y1) fun v4 =>
  if v4 = 0 then
    nm (mI M 405 90) fun v6 =>
    nm (msI M 405 90 (x2 + 1)) fun M7 =>
    ob (K_X2_relation M7) fun r9 M8 =>
    if 0 ≤ r9 then
      nm (msI M8 405 90 v6) fun M12 =>
      if (1 : Int32) = 0 then
        some (.inr 1, M12)
      else
        some (.inr 0, M12)
    else
      ob (K_X2_isSign 43 M8) fun r15 M14 =>
      if r15 = 0 then
        ob (K_X2_isSign 45 M14) fun r21 M20 =>
        if r21 = 0 then
          ob (K_X2_isSign 42 M20) fun r27 M26 =>
          if r27 = 0 then
            ob (K_X2_isSign 47 M26) fun r33 M32 =>
            if r33 = 0 then
              nm (msI M32 405 90 v6) fun M36 =>
              if (0 : Int32) = 0 then
                some (.inr 1, M36)
              else
                some (.inr 0, M36)
            else
              nm (msI M32 405 90 v6) fun M38 =>
              if (1 : Int32) = 0 then
                some (.inr 1, M38)
              else
                some (.inr 0, M38)
          else
            nm (msI M26 405 90 v6) fun M30 =>
            if (1 : Int32) = 0 then
              some (.inr 1, M30)
            else
              some (.inr 0, M30)
        else
          nm (msI M20 405 90 v6) fun M24 =>
          if (1 : Int32) = 0 then
            some (.inr 1, M24)
          else
            some (.inr 0, M24)
      else
        nm (msI M14 405 90 v6) fun M18 =>
        if (1 : Int32) = 0 then
          some (.inr 1, M18)
        else
          some (.inr 0, M18)
  else
    nm (x2 + 1) fun v5 =>
    rec v4 v5 M
def KL_X2_beginsCondition_7 : Nat → Int32 → Int32 → CM → Option ((Unit ⊕ Int32) × CM)
  | 0, _, _, _ => none
  | n + 1, x1, x2, M =>
    if mI M 404 90 ≤ x2 then
      some (.inl (), M)
    else
      if inb x2 2001 then
      if mA M 91 (ix x2) = 40 then
        KJ_X2_beginsCondition_47_7 (KL_X2_beginsCondition_7 n) x2 x1 1 M
      else
        if inb x2 2001 then
        if mA M 91 (ix x2) = 41 then
          KJ_X2_beginsCondition_47_7 (KL_X2_beginsCondition_7 n) x2 x1 (-1) M
        else
          KJ_X2_beginsCondition_47_7 (KL_X2_beginsCondition_7 n) x2 x1 0 M
        else none
      else none
def K_X2_beginsCondition (M : CM) : Option (Int32 × CM) :=
  nm (mI M 405 90) fun v1 =>
  obS (KL_X2_beginsCondition_7 FU 0 v1 M) (fun r53 M50 => some (r53, M50)) fun q49 M50 =>
  some (0, M50)
def K_X2_key (x1 : Int32) (M : CM) : Option ((Unit ⊕ Nat) × CM) :=
  ob (K_X2_takeKey x1 M) fun r2 M1 =>
  if r2 = 0 then
    ob (K_X2_stop M1) fun r6 M5 =>
    if mk M5 r6 = 7 then
    some (.inr r6, M5)
    else none
  else
    some (.inl (), M1)
