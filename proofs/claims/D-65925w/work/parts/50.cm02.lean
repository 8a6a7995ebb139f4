set_option maxRecDepth 100000
def KJ_X0_count_53 (x1 : Int32) (M : CM) : Option (Int32 × CM) :=
  if x1 = 0 then
    ob (K_J2_size 88 M) fun r3 M2 =>
    some (r3, M2)
  else
  if x1 = 1 then
    ob (K_J2_size 89 M) fun r8 M7 =>
    some (r8, M7)
  else
  if x1 = 2 then
    some (mI M 9 1, M)
  else
  if x1 = 3 then
    some (mI M 15 1, M)
  else
  if x1 = 4 then
    some (mI M 35 1, M)
  else
  if x1 = 5 then
    some (mI M 41 1, M)
  else
  if x1 = 6 then
    some (mI M 39 1, M)
  else
  if x1 = 7 then
    some (mI M 604 105, M)
  else
  if x1 = 8 then
    some (mI M 16 1, M)
  else
  if x1 = 9 then
    some (mI M 43 1, M)
  else
  if x1 = 10 then
    some (mI M 57 1, M)
  else
  if x1 = 11 then
    some (mI M 65 1, M)
  else
  if x1 = 12 then
    some (mI M 66 1, M)
  else
  if x1 = 13 then
    some (mI M 75 1, M)
  else
  if x1 = 14 then
    some (mI M 74 1, M)
  else
  if x1 = 15 then
    ob (K_X0_unknownsOf 1 M) fun r26 M25 =>
    some (r26, M25)
  else
  if x1 = 16 then
    some (mI M 604 133, M)
  else
  if x1 = 17 then
    some (mI M 95 1, M)
  else
  if x1 = 18 then
    some (mI M 96 1, M)
  else
  if x1 = 19 then
    some (mI M 97 1, M)
  else
  some (mI M 90 1, M)
def KJ_X0_count_37 (x1 : Int32) (M : CM) : Option (Int32 × CM) :=
  if x1 ≤ 16 then
    KJ_X0_count_53 x1 M
  else
    if mI M 91 1 = 0 then
      some ((-4), M)
    else
      KJ_X0_count_53 x1 M
def KJ_X0_count_24 (x1 : Int32) (M : CM) : Option (Int32 × CM) :=
  if x1 ≤ 9 then
    KJ_X0_count_37 x1 M
  else
    if mI M 46 1 = 0 then
      some ((-4), M)
    else
      KJ_X0_count_37 x1 M
def K_X0_count (x1 : Int32) (M : CM) : Option (Int32 × CM) :=
  if x1 < 0 then
    some ((-1), M)
  else
    if x1 ≤ 20 then
      if x1 ≤ 2 then
        KJ_X0_count_24 x1 M
      else
        if mI M 30 1 = 0 then
          some ((-4), M)
        else
          KJ_X0_count_24 x1 M
    else
      some ((-1), M)
def KJ_X0_diff_423 (cf_X0_diff : Nat → CM → Option ((Nat ⊕ Nat) × CM)) (x1 : Nat) (y0 : Nat) (y1 : Int32) (M : CM) : Option ((Nat ⊕ Nat) × CM) :=
  if mk M x1 = 18 then
  obS (K_X0_copy (mR M 3405 x1) M) (fun w229 M225 =>
      some (.inr w229, M225))
  fun r226 M225 =>
  if mk M225 x1 = 18 then
  obS (K_X0_copy (mR M225 3406 x1) M225) (fun w235 M231 =>
      some (.inr w235, M231))
  fun r232 M231 =>
  if mk M231 y0 = 4 then
  obS (K_X3_make_2 y0 y1 r226 r232 M231) (fun w241 M237 =>
      some (.inr w241, M237))
  fun r238 M237 =>
  if mk M237 x1 = 18 then
  obS (cf_X0_diff (mR M237 3405 x1) M237) (fun w247 M243 =>
      some (.inr w247, M243))
  fun r244 M243 =>
  if mk M243 x1 = 18 then
  obS (cf_X0_diff (mR M243 3406 x1) M243) (fun w253 M249 =>
      some (.inr w253, M249))
  fun r250 M249 =>
  if mk M249 (mR M243 69 1) = 4 then
  obS (K_X3_make (mR M243 69 1) 14 0 r238 r244 r250 M249) (fun w259 M255 =>
      some (.inr w259, M255))
  fun r256 M255 =>
  some (.inl r256, M255)
  else none
  else none
  else none
  else none
  else none
  else none
def KB_X0_diff (cf_X0_diff : Nat → CM → Option ((Nat ⊕ Nat) × CM)) (x1 : Nat) (M : CM) : Option ((Nat ⊕ Nat) × CM) :=
  if mk M x1 = 18 then
  if mI M 3400 x1 = 2 then
    if mk M (mR M 69 1) = 4 then
    obS (K_X3_number (mR M 69 1) 65536 M) (fun w8 M4 =>
        some (.inr w8, M4))
    fun r5 M4 =>
    some (.inl r5, M4)
    else none
  else
  if mI M 3400 x1 = 3 then
    if mk M x1 = 18 then
    obS (cf_X0_diff (mR M 3405 x1) M) (fun w15 M11 =>
        some (.inr w15, M11))
    fun r12 M11 =>
    if mk M11 x1 = 18 then
    if mk M11 x1 = 18 then
    obS (cf_X0_diff (mR M11 3406 x1) M11) (fun w22 M18 =>
        some (.inr w22, M18))
    fun r19 M18 =>
    if mk M18 (mR M11 69 1) = 4 then
    obS (K_X3_make_2 (mR M11 69 1) (mI M11 3400 x1) r12 r19 M18) (fun w28 M24 =>
        some (.inr w28, M24))
    fun r25 M24 =>
    some (.inl r25, M24)
    else none
    else none
    else none
    else none
  else
  if mI M 3400 x1 = 4 then
    if mk M x1 = 18 then
    obS (cf_X0_diff (mR M 3405 x1) M) (fun w35 M31 =>
        some (.inr w35, M31))
    fun r32 M31 =>
    if mk M31 x1 = 18 then
    if mk M31 x1 = 18 then
    obS (cf_X0_diff (mR M31 3406 x1) M31) (fun w42 M38 =>
        some (.inr w42, M38))
    fun r39 M38 =>
    if mk M38 (mR M31 69 1) = 4 then
    obS (K_X3_make_2 (mR M31 69 1) (mI M31 3400 x1) r32 r39 M38) (fun w48 M44 =>
        some (.inr w48, M44))
    fun r45 M44 =>
    some (.inl r45, M44)
    else none
    else none
    else none
    else none
  else
  if mI M 3400 x1 = 5 then
    if mk M x1 = 18 then
    obS (cf_X0_diff (mR M 3405 x1) M) (fun w55 M51 =>
        some (.inr w55, M51))
    fun r52 M51 =>
    if mk M51 x1 = 18 then
    obS (K_X0_copy (mR M51 3406 x1) M51) (fun w61 M57 =>
        some (.inr w61, M57))
    fun r58 M57 =>
    if mk M57 (mR M 69 1) = 4 then
    obS (K_X3_make_2 (mR M 69 1) 5 r52 r58 M57) (fun w67 M63 =>
        some (.inr w67, M63))
    fun r64 M63 =>
    if mk M63 x1 = 18 then
    obS (K_X0_copy (mR M63 3405 x1) M63) (fun w73 M69 =>
        some (.inr w73, M69))
    fun r70 M69 =>
    if mk M69 x1 = 18 then
    obS (cf_X0_diff (mR M69 3406 x1) M69) (fun w79 M75 =>
        some (.inr w79, M75))
    fun r76 M75 =>
    if mk M75 (mR M63 69 1) = 4 then
    obS (K_X3_make_2 (mR M63 69 1) 5 r70 r76 M75) (fun w85 M81 =>
        some (.inr w85, M81))
    fun r82 M81 =>
    if mk M81 (mR M63 69 1) = 4 then
    obS (K_X3_make_2 (mR M63 69 1) 3 r64 r82 M81) (fun w91 M87 =>
        some (.inr w91, M87))
    fun r88 M87 =>
    some (.inl r88, M87)
    else none
    else none
    else none
    else none
    else none
    else none
    else none
  else
  if mI M 3400 x1 = 6 then
    if mk M x1 = 18 then
    obS (cf_X0_diff (mR M 3405 x1) M) (fun w98 M94 =>
        some (.inr w98, M94))
    fun r95 M94 =>
    if mk M94 x1 = 18 then
    obS (K_X0_copy (mR M94 3405 x1) M94) (fun w104 M100 =>
        some (.inr w104, M100))
    fun r101 M100 =>
    if mk M100 x1 = 18 then
    obS (K_X0_copy (mR M100 3406 x1) M100) (fun w110 M106 =>
        some (.inr w110, M106))
    fun r107 M106 =>
    if mk M106 (mR M94 69 1) = 4 then
    obS (K_X3_make_2 (mR M94 69 1) 6 r101 r107 M106) (fun w116 M112 =>
        some (.inr w116, M112))
    fun r113 M112 =>
    if mk M112 x1 = 18 then
    obS (cf_X0_diff (mR M112 3406 x1) M112) (fun w122 M118 =>
        some (.inr w122, M118))
    fun r119 M118 =>
    if mk M118 (mR M112 69 1) = 4 then
    obS (K_X3_make_2 (mR M112 69 1) 5 r113 r119 M118) (fun w128 M124 =>
        some (.inr w128, M124))
    fun r125 M124 =>
    if mk M124 (mR M112 69 1) = 4 then
    obS (K_X3_make_2 (mR M112 69 1) 4 r95 r125 M124) (fun w134 M130 =>
        some (.inr w134, M130))
    fun r131 M130 =>
    if mk M130 x1 = 18 then
    obS (K_X0_copy (mR M130 3406 x1) M130) (fun w140 M136 =>
        some (.inr w140, M136))
    fun r137 M136 =>
    if mk M136 (mR M130 69 1) = 4 then
    obS (K_X3_make_2 (mR M130 69 1) 6 r131 r137 M136) (fun w146 M142 =>
        some (.inr w146, M142))
    fun r143 M142 =>
    some (.inl r143, M142)
    else none
    else none
    else none
    else none
    else none
    else none
    else none
    else none
    else none
  else
  if mI M 3400 x1 = 7 then
    if mk M x1 = 18 then
    obS (cf_X0_diff (mR M 3405 x1) M) (fun w153 M149 =>
        some (.inr w153, M149))
    fun r150 M149 =>
    if mk M149 (mR M 69 1) = 4 then
    obS (K_X3_make_2 (mR M 69 1) 7 r150 0 M149) (fun w159 M155 =>
        some (.inr w159, M155))
    fun r156 M155 =>
    some (.inl r156, M155)
    else none
    else none
  else
  if mI M 3400 x1 = 8 then
    if mk M x1 = 18 then
    obS (K_X0_copy (mR M 3405 x1) M) (fun w166 M162 =>
        some (.inr w166, M162))
    fun r163 M162 =>
    if mk M162 (mR M 69 1) = 4 then
    obS (K_X3_make_2 (mR M 69 1) 12 r163 0 M162) (fun w172 M168 =>
        some (.inr w172, M168))
    fun r169 M168 =>
    if mk M168 x1 = 18 then
    obS (cf_X0_diff (mR M168 3405 x1) M168) (fun w178 M174 =>
        some (.inr w178, M174))
    fun r175 M174 =>
    if mk M174 (mR M168 69 1) = 4 then
    obS (K_X3_make_2 (mR M168 69 1) 5 r169 r175 M174) (fun w184 M180 =>
        some (.inr w184, M180))
    fun r181 M180 =>
    some (.inl r181, M180)
    else none
    else none
    else none
    else none
  else
  if mI M 3400 x1 = 9 then
    if mk M x1 = 18 then
    obS (cf_X0_diff (mR M 3405 x1) M) (fun w191 M187 =>
        some (.inr w191, M187))
    fun r188 M187 =>
    if mk M187 (mR M187 69 1) = 4 then
    obS (K_X3_number (mR M187 69 1) 131072 M187) (fun w197 M193 =>
        some (.inr w197, M193))
    fun r194 M193 =>
    if mk M193 x1 = 18 then
    obS (K_X0_copy (mR M193 3405 x1) M193) (fun w203 M199 =>
        some (.inr w203, M199))
    fun r200 M199 =>
    if mk M199 (mR M193 69 1) = 4 then
    obS (K_X3_make_2 (mR M193 69 1) 9 r200 0 M199) (fun w209 M205 =>
        some (.inr w209, M205))
    fun r206 M205 =>
    if mk M205 (mR M193 69 1) = 4 then
    obS (K_X3_make_2 (mR M193 69 1) 5 r194 r206 M205) (fun w215 M211 =>
        some (.inr w215, M211))
    fun r212 M211 =>
    if mk M211 (mR M193 69 1) = 4 then
    obS (K_X3_make_2 (mR M193 69 1) 6 r188 r212 M211) (fun w221 M217 =>
        some (.inr w221, M217))
    fun r218 M217 =>
    some (.inl r218, M217)
    else none
    else none
    else none
    else none
    else none
    else none
  else
  if mI M 3400 x1 = 10 then
    if mk M x1 = 18 then
    if mI M 3400 x1 = 10 then
      KJ_X0_diff_423 cf_X0_diff x1 (mR M 69 1) 22 M
    else
      KJ_X0_diff_423 cf_X0_diff x1 (mR M 69 1) 23 M
    else none
  else
  if mI M 3400 x1 = 11 then
    if mk M x1 = 18 then
    if mI M 3400 x1 = 10 then
      KJ_X0_diff_423 cf_X0_diff x1 (mR M 69 1) 22 M
    else
      KJ_X0_diff_423 cf_X0_diff x1 (mR M 69 1) 23 M
    else none
  else
  if mI M 3400 x1 = 12 then
    if mk M (mR M 69 1) = 4 then
    obS (K_X3_number (mR M 69 1) 0 M) (fun w270 M266 =>
        some (.inr w270, M266))
    fun r267 M266 =>
    some (.inl r267, M266)
    else none
  else
  if mI M 3400 x1 = 13 then
    if mk M (mR M 69 1) = 4 then
    obS (K_X3_number (mR M 69 1) 0 M) (fun w277 M273 =>
        some (.inr w277, M273))
    fun r274 M273 =>
    some (.inl r274, M273)
    else none
  else
  if mI M 3400 x1 = 14 then
    if mk M x1 = 18 then
    obS (K_X0_copy (mR M 3405 x1) M) (fun w284 M280 =>
        some (.inr w284, M280))
    fun r281 M280 =>
    if mk M280 x1 = 18 then
    obS (cf_X0_diff (mR M280 3406 x1) M280) (fun w290 M286 =>
        some (.inr w290, M286))
    fun r287 M286 =>
    if mk M286 x1 = 18 then
    obS (cf_X0_diff (mR M286 3407 x1) M286) (fun w296 M292 =>
        some (.inr w296, M292))
    fun r293 M292 =>
    if mk M292 (mR M286 69 1) = 4 then
    obS (K_X3_make (mR M286 69 1) 14 0 r281 r287 r293 M292) (fun w302 M298 =>
        some (.inr w302, M298))
    fun r299 M298 =>
    some (.inl r299, M298)
    else none
    else none
    else none
    else none
  else
  if mI M 3400 x1 = 15 then
    if mk M (mR M 69 1) = 4 then
    obS (K_X3_number (mR M 69 1) 0 M) (fun w309 M305 =>
        some (.inr w309, M305))
    fun r306 M305 =>
    some (.inl r306, M305)
    else none
  else
  if mI M 3400 x1 = 16 then
    if mk M (mR M 69 1) = 4 then
    obS (K_X3_number (mR M 69 1) 0 M) (fun w316 M312 =>
        some (.inr w316, M312))
    fun r313 M312 =>
    some (.inl r313, M312)
    else none
  else
  if mI M 3400 x1 = 17 then
    if mk M x1 = 18 then
    if inb (mI M 3401 x1) 180 then
    if mk M (mR M 69 1) = 4 then
    obS (K_X3_make (mR M 69 1) 17 (mA M 121 (ix (mI M 3401 x1))) 0 0 0 M) (fun w325 M321 =>
        some (.inr w325, M321))
    fun r322 M321 =>
    some (.inl r322, M321)
    else none
    else none
    else none
  else
  if mk M (mR M 69 1) = 4 then
  obS (K_X3_number (mR M 69 1) 0 M) (fun w331 M327 =>
      some (.inr w331, M327))
  fun r328 M327 =>
  some (.inl r328, M327)
  else none
  else none
def KG_X0_diff : Nat → (Nat → CM → Option ((Nat ⊕ Nat) × CM))
  | 0 => (fun _ _ => none)
  | d + 1 => (KB_X0_diff (KG_X0_diff d))
def K_X0_diff : Nat → CM → Option ((Nat ⊕ Nat) × CM) := (KG_X0_diff 300)
def KL_X0_differs_9 : Nat → Int32 → Int32 → CM → Option ((Int32 ⊕ (Int32 ⊕ Nat)) × CM)
  | 0, _, _, _ => none
  | n + 1, x1, x2, M =>
    if mI M 41 1 ≤ x2 then
      some (.inl x1, M)
    else
      if x1 = 0 then
        if inb x2 24 then
        if mk M (mX M 137 (ix x2)) = 18 then
        if mI M 3400 (mX M 137 (ix x2)) = 29 then
          nm (x2 + 1) fun v4 =>
          KL_X0_differs_9 n 0 v4 M
        else
          if inb x2 24 then
          obS (K_X0_live (mX M 137 (ix x2)) M) (fun w10 M6 =>
              some (.inr (.inr w10), M6))
          fun r7 M6 =>
          if inb x2 24 then
          if r7 = mA M6 148 (ix x2) then
            nm (x2 + 1) fun v13 =>
            KL_X0_differs_9 n 0 v13 M6
          else
            nm (x2 + 1) fun v14 =>
            KL_X0_differs_9 n 1 v14 M6
          else none
          else none
        else none
        else none
      else
        some (.inl x1, M)
def K_X0_differs (M : CM) : Option ((Int32 ⊕ Nat) × CM) :=
  nm (msI M 86 1 0) fun M1 =>
  obS (KL_X0_differs_9 FU 0 0 M1) (fun r25 M20 => some (r25, M20)) fun q19 M20 =>
  nm (msI M20 86 1 1) fun M23 =>
  some (.inl q19, M23)
def K_X16_init (x0 : Nat) (M : CM) : Option (Unit × CM) :=
  if ¬ x0 = 0 then
  some ((), M)
  else none
def KJ_X0_newMember_29 (M : CM) : Option (Nat × CM) :=
  nm (msI M 17 1 ((mI M 17 1) + 1)) fun M5 =>
  ob (K_J2_get 100 ((mI M5 17 1) - 1) M5) fun r7 M6 =>
  if r7 = 0 ∨ mk M6 r7 = 16 then
  some (r7, M6)
  else none
def K_X0_newMember (M : CM) : Option (Nat × CM) :=
  ob (K_J2_size 100 M) fun r2 M1 =>
  if mI M 17 1 = r2 then
    if mn M1 ≤ 601024 ∧ ms M1 + 8 ≤ 7293034 then
    nm (mn M1) fun v12 =>
    nm (mnew M1 16 0 8) fun M13 =>
    if ¬ v12 = 0 then
    ob (K_X16_init v12 M13) fun r16 M15 =>
    ob (K_J2_add 100 v12 M15) fun r20 M19 =>
    KJ_X0_newMember_29 M19
    else none
    else none
  else
    KJ_X0_newMember_29 M1
def K_X11_isReal (x0 : Nat) (M : CM) : Option (Int32 × CM) :=
  if mk M x0 = 11 then
  if mI M 2002 x0 = 12 then
    some (1, M)
  else
    some (0, M)
  else none
def K_X15_left (x0 : Nat) (M : CM) : Option (Int32 × CM) :=
  if mk M x0 = 15 then
  if mk M (mR M 2800 x0) = 12 then
  if mk M (mR M 2200 (mR M 2800 x0)) = 22 then
  ob (K_J2_size (mR M 2200 (mR M 2800 x0)) M) fun r5 M4 =>
  if mk M4 x0 = 15 then
  some (r5 - (mI M4 2801 x0), M4)
  else none
  else none
  else none
  else none
def K_X15_leadsTo (x0 : Nat) (x1 : Int32) (M : CM) : Option (Int32 × CM) :=
  if mk M x0 = 15 then
  ob (K_X15_left x0 M) fun r3 M2 =>
  if r3 ≤ 0 then
    some (0, M2)
  else
    if mk M2 x0 = 15 then
    if mk M2 (mR M2 2800 x0) = 12 then
    if mk M2 x0 = 15 then
    if mk M2 (mR M2 2200 (mR M2 2800 x0)) = 22 then
    ob (K_J2_get (mR M2 2200 (mR M2 2800 x0)) (mI M2 2801 x0) M2) fun r11 M10 =>
    if r11 = 0 ∨ mk M10 r11 = 23 ∨ (1099511627776 ≤ r11 ∧ r11 < 1099511628032) then
    if mk M10 r11 = 23 ∨ (1099511627776 ≤ r11 ∧ r11 < 1099511628032) then
    ob (K_J16_intValue r11 M10) fun r17 M16 =>
    if r17 = x1 then
      some (1, M16)
    else
      some (0, M16)
    else none
    else none
    else none
    else none
    else none
    else none
  else none
def K_X17_init (x0 : Nat) (M : CM) : Option (Unit × CM) :=
  if ¬ x0 = 0 then
  if ¬ (3 : Int32) < 0 ∧ mn M ≤ 601024 ∧ ms M + ix 3 ≤ 7293034 then
  nm (mn M) fun v3 =>
  nm (mnew M 50 (ix 3) (ix 3)) fun M4 =>
  if mk M4 x0 = 17 then
  nm (msR M4 3204 x0 v3) fun M6 =>
  some ((), M6)
  else none
  else none
  else none
def KJ_X0_newVar_45 (M : CM) : Option ((Nat ⊕ Nat) × CM) :=
  nm (msI M 15 1 ((mI M 15 1) + 1)) fun M5 =>
  ob (K_J2_get 98 ((mI M5 15 1) - 1) M5) fun r7 M6 =>
  if r7 = 0 ∨ mk M6 r7 = 17 then
  some (.inl r7, M6)
  else none
def K_X0_newVar (M : CM) : Option ((Nat ⊕ Nat) × CM) :=
  if mI M 15 1 = 96 then
    ob (K_X0_wrong 24 0 M) fun r25 M24 =>
    if mk M24 r25 = 7 then
    some (.inr r25, M24)
    else none
  else
    ob (K_J2_size 98 M) fun r2 M1 =>
    if mI M 15 1 = r2 then
      if mn M1 ≤ 601024 ∧ ms M1 + 20 ≤ 7293034 then
      nm (mn M1) fun v12 =>
      nm (mnew M1 17 0 20) fun M13 =>
      if ¬ v12 = 0 then
      ob (K_X17_init v12 M13) fun r16 M15 =>
      ob (K_J2_add 98 v12 M15) fun r20 M19 =>
      KJ_X0_newVar_45 M19
      else none
      else none
    else
      KJ_X0_newVar_45 M1
def KJ_X0_variables_106_21 (rec : Nat → Nat → Nat → Nat → Nat → Nat → Nat → Int32 → CM → Option (((Nat × Nat × Nat × Nat) ⊕ (Unit ⊕ Nat)) × CM)) (x1 : Nat) (x2 : Nat) (x4 : Nat) (x5 : Nat) (x6 : Nat) (x7 : Nat) (x8 : Nat) (x9 : Int32) (x10 : Nat) (M : CM) : Option (((Nat × Nat × Nat × Nat) ⊕ (Unit ⊕ Nat)) × CM) :=
  if mk M x10 = 15 then
  if mk M (mR M 2800 x10) = 12 then
  if mI M 2201 (mR M 2800 x10) = 0 then
    if x5 = 0 then
      if mk M x10 = 15 then
      if mk M (mR M 2800 x10) = 12 then
      nm (mR M 2202 (mR M 2800 x10)) fun v30 =>
      if mk M x10 = 15 then
      nm (mR M 2802 x10) fun v32 =>
      nm (x9 + 1) fun v33 =>
      rec x1 x2 x4 v30 v32 x7 x8 v33 M
      else none
      else none
      else none
    else
      nm (x9 + 1) fun v27 =>
      rec x1 x2 x4 x5 x6 x7 x8 v27 M
  else
    nm (x9 + 1) fun v26 =>
    rec x1 x2 x4 x5 x6 x7 x8 v26 M
  else none
  else none
def KL_X0_variables_21 : Nat → Nat → Nat → Nat → Nat → Nat → Nat → Nat → Int32 → CM → Option (((Nat × Nat × Nat × Nat) ⊕ (Unit ⊕ Nat)) × CM)
  | 0, _, _, _, _, _, _, _, _, _ => none
  | n + 1, x1, x2, x4, x5, x6, x7, x8, x9, M =>
    if mI M 18 1 ≤ x9 then
      some (.inl (x5, x6, x7, x8), M)
    else
      ob (K_J2_get 101 x9 M) fun r4 M3 =>
      if r4 = 0 ∨ mk M3 r4 = 15 then
      if mk M3 r4 = 15 then
      ob (K_X15_left r4 M3) fun r10 M9 =>
      if 0 < r10 then
        ob (K_X0_wrong 21 0 M9) fun r14 M13 =>
        if mk M13 r14 = 7 then
        some (.inr (.inr r14), M13)
        else none
      else
        if mk M9 r4 = 15 then
        if mk M9 (mR M9 2800 r4) = 12 then
        if mI M9 2203 (mR M9 2800 r4) < 0 then
          if mk M9 r4 = 15 then
          if mk M9 (mR M9 2800 r4) = 12 then
          if mI M9 2201 (mR M9 2800 r4) = 0 then
            KJ_X0_variables_106_21 (KL_X0_variables_21 n) x1 x2 x4 x5 x6 x7 x8 x9 r4 M9
          else
            if x7 = 0 then
              if mk M9 r4 = 15 then
              if mk M9 (mR M9 2800 r4) = 12 then
              nm (mR M9 2202 (mR M9 2800 r4)) fun v38 =>
              if mk M9 r4 = 15 then
              nm (mR M9 2802 r4) fun v40 =>
              nm (x9 + 1) fun v41 =>
              KL_X0_variables_21 n x1 x2 x4 x5 x6 v38 v40 v41 M9
              else none
              else none
              else none
            else
              KJ_X0_variables_106_21 (KL_X0_variables_21 n) x1 x2 x4 x5 x6 x7 x8 x9 r4 M9
          else none
          else none
        else
          ob (K_X0_wrong 21 0 M9) fun r45 M44 =>
          if mk M44 r45 = 7 then
          some (.inr (.inr r45), M44)
          else none
        else none
        else none
      else none
      else none
def KJ_X0_variables_253_171 (rec : Nat → Nat → Nat → Nat → Nat → Nat → Nat → Int32 → CM → Option ((Unit ⊕ (Unit ⊕ Nat)) × CM)) (x1 : Nat) (x2 : Nat) (x4 : Nat) (x5 : Nat) (x6 : Nat) (x7 : Nat) (x8 : Nat) (x9 : Int32) (x10 : Nat) (y0 : Nat) (y1 : Int32) (M : CM) : Option ((Unit ⊕ (Unit ⊕ Nat)) × CM) :=
  if mk M y0 = 17 then
  nm (msI M 3203 y0 y1) fun M86 =>
  if mk M86 x4 = 11 then
  if mk M86 x10 = 17 then
  if mk M86 (mR M86 2005 x4) = 50 ∧ mk M86 (mR M86 3204 x10) = 50 ∧ ¬ (0 : Int32) < 0 ∧ ¬ (0 : Int32) < 0 ∧ ¬ (3 : Int32) < 0 ∧ ix 0 + ix 3 ≤ ml M86 (mR M86 2005 x4) ∧ ix 0 + ix 3 ≤ ml M86 (mR M86 3204 x10) then
  nm (mcA M86 (mR M86 2005 x4) (ix 0) (mR M86 3204 x10) (ix 0) (ix 3)) fun M90 =>
  if mk M90 x4 = 11 then
  ob (K_X11_is x4 6 M90) fun r93 M92 =>
  if mk M92 x10 = 17 then
  nm (msI M92 3205 x10 r93) fun M97 =>
  if mk M97 x10 = 17 then
  nm (msR M97 3206 x10 x5) fun M99 =>
  if mk M99 x10 = 17 then
  nm (msR M99 3207 x10 x6) fun M101 =>
  if mk M101 x10 = 17 then
  nm (msR M101 3208 x10 x7) fun M103 =>
  if mk M103 x10 = 17 then
  nm (msR M103 3209 x10 x8) fun M105 =>
  if mk M105 x10 = 17 then
  nm (msR M105 3210 x10 0) fun M107 =>
  if mk M107 x10 = 17 then
  nm (msR M107 3211 x10 0) fun M109 =>
  if mk M109 x10 = 17 then
  nm (msI M109 3212 x10 0) fun M111 =>
  if mk M111 x10 = 17 then
  nm (msI M111 3213 x10 0) fun M113 =>
  if mk M113 x10 = 17 then
  nm (msI M113 3214 x10 0) fun M115 =>
  nm (x9 + 1) fun v116 =>
  rec x1 x2 x4 x5 x6 x7 x8 v116 M115
  else none
  else none
  else none
  else none
  else none
  else none
  else none
  else none
  else none
  else none
  else none
  else none
  else none
  else none
  else none
def KJ_X0_variables_220_171 (rec : Nat → Nat → Nat → Nat → Nat → Nat → Nat → Int32 → CM → Option ((Unit ⊕ (Unit ⊕ Nat)) × CM)) (x1 : Nat) (x2 : Nat) (x4 : Nat) (x5 : Nat) (x6 : Nat) (x7 : Nat) (x8 : Nat) (x9 : Int32) (x10 : Nat) (y0 : Nat) (y1 : Int32) (M : CM) : Option ((Unit ⊕ (Unit ⊕ Nat)) × CM) :=
  if mk M y0 = 17 then
  nm (msI M 3202 y0 y1) fun M74 =>
  if mk M74 x4 = 11 then
  ob (K_X11_is x4 5 M74) fun r77 M76 =>
  if r77 = 0 then
    if mk M76 x4 = 11 then
    ob (K_X11_is x4 7 M76) fun r82 M81 =>
    if r82 = 0 then
      KJ_X0_variables_253_171 rec x1 x2 x4 x5 x6 x7 x8 x9 x10 x10 0 M81
    else
      KJ_X0_variables_253_171 rec x1 x2 x4 x5 x6 x7 x8 x9 x10 x10 2 M81
    else none
  else
    KJ_X0_variables_253_171 rec x1 x2 x4 x5 x6 x7 x8 x9 x10 x10 1 M76
  else none
  else none
def KL_X0_variables_171 : Nat → Nat → Nat → Nat → Nat → Nat → Nat → Nat → Int32 → CM → Option ((Unit ⊕ (Unit ⊕ Nat)) × CM)
  | 0, _, _, _, _, _, _, _, _, _ => none
  | n + 1, x1, x2, x4, x5, x6, x7, x8, x9, M =>
    if mk M x2 = 16 then
    ob (K_X16_many x2 M) fun r59 M58 =>
    if r59 ≤ x9 then
      some (.inl (), M58)
    else
      obS (K_X0_newVar M58) (fun w66 M62 =>
          some (.inr (.inr w66), M62))
      fun r63 M62 =>
      if mk M62 r63 = 17 then
      nm (msR M62 3200 r63 x1) fun M68 =>
      if mk M68 x4 = 11 then
      if mk M68 r63 = 17 then
      nm (msI M68 3201 r63 (mI M68 2003 x4)) fun M71 =>
      if mk M71 x4 = 11 then
      if mI M71 2004 x4 = 0 then
        KJ_X0_variables_220_171 (KL_X0_variables_171 n) x1 x2 x4 x5 x6 x7 x8 x9 r63 r63 0 M71
      else
        KJ_X0_variables_220_171 (KL_X0_variables_171 n) x1 x2 x4 x5 x6 x7 x8 x9 r63 r63 (x9 + 1) M71
      else none
      else none
      else none
      else none
    else none
def KJ_X0_variables_160 (x1 : Nat) (x2 : Nat) (x4 : Nat) (x5 : Nat) (x6 : Nat) (x7 : Nat) (x8 : Nat) (M : CM) : Option ((Unit ⊕ Nat) × CM) :=
  if mk M x2 = 16 then
  nm (msI M 3005 x2 (mI M 15 1)) fun M56 =>
  obS (KL_X0_variables_171 FU x1 x2 x4 x5 x6 x7 x8 0 M56) (fun r125 M122 => some (r125, M122)) fun q121 M122 =>
  some (.inl (), M122)
  else none
def K_X0_variables (x1 : Nat) (x2 : Nat) (x3 : Int32) (M : CM) : Option ((Unit ⊕ Nat) × CM) :=
  if mk M x2 = 16 then
  nm (mR M 3003 x2) fun v2 =>
  obS (KL_X0_variables_21 FU x1 x2 v2 0 0 0 0 x3 M) (fun r130 M53 => some (r130, M53)) fun q52 M53 =>
  if q52.1 = 0 then
    if mk M53 v2 = 11 then
    nm (mR M53 2007 v2) fun v127 =>
    KJ_X0_variables_160 x1 x2 v2 v127 x1 q52.2.2.1 q52.2.2.2 M53
    else none
  else
    KJ_X0_variables_160 x1 x2 v2 q52.1 q52.2.1 q52.2.2.1 q52.2.2.2 M53
  else none
def K_X14_init (x0 : Nat) (M : CM) : Option (Unit × CM) :=
  if ¬ x0 = 0 then
  if mn M ≤ 601024 ∧ ms M + 3 ≤ 7293034 then
  nm (mn M) fun v3 =>
  nm (mnew M 22 0 3) fun M4 =>
  if ¬ v3 = 0 then
  ob (K_J2_init v3 M4) fun r7 M6 =>
  if mk M6 x0 = 14 then
  nm (msR M6 2605 x0 v3) fun M11 =>
  some ((), M11)
  else none
  else none
  else none
  else none
def KJ_X0_newInst_46 (x1 : Nat) (x2 : Nat) (x3 : Int32) (x4 : Int32) (M : CM) : Option ((Nat ⊕ Nat) × CM) :=
  ob (K_J2_get 99 (mI M 16 1) M) fun r6 M5 =>
  if r6 = 0 ∨ mk M5 r6 = 14 then
  if mk M5 r6 = 14 then
  nm (msI M5 2600 r6 (mI M5 16 1)) fun M11 =>
  if mk M11 r6 = 14 then
  nm (msR M11 2601 r6 x1) fun M13 =>
  if mk M13 r6 = 14 then
  nm (msR M13 2602 r6 x2) fun M15 =>
  if mk M15 r6 = 14 then
  nm (msI M15 2603 r6 x3) fun M17 =>
  if mk M17 r6 = 14 then
  nm (msI M17 2604 r6 x4) fun M19 =>
  if mk M19 r6 = 14 then
  if mk M19 (mR M19 2605 r6) = 22 then
  ob (K_J2_clear (mR M19 2605 r6) M19) fun r23 M22 =>
  nm (msI M22 16 1 ((mI M22 16 1) + 1)) fun M26 =>
  some (.inl r6, M26)
  else none
  else none
  else none
  else none
  else none
  else none
  else none
  else none
def K_X0_newInst (x1 : Nat) (x2 : Nat) (x3 : Int32) (x4 : Int32) (M : CM) : Option ((Nat ⊕ Nat) × CM) :=
  if mI M 16 1 = 200 then
    ob (K_X0_wrong 24 0 M) fun r41 M40 =>
    if mk M40 r41 = 7 then
    some (.inr r41, M40)
    else none
  else
    ob (K_J2_size 99 M) fun r2 M1 =>
    if mI M 16 1 = r2 then
      if mn M1 ≤ 601024 ∧ ms M1 + 6 ≤ 7293034 then
      nm (mn M1) fun v28 =>
      nm (mnew M1 14 0 6) fun M29 =>
      if ¬ v28 = 0 then
      ob (K_X14_init v28 M29) fun r32 M31 =>
      ob (K_J2_add 99 v28 M31) fun r36 M35 =>
      KJ_X0_newInst_46 x1 x2 x3 x4 M35
      else none
      else none
    else
      KJ_X0_newInst_46 x1 x2 x3 x4 M1
def KL_X0_element_119 (cf_X0_instances : Nat → Nat → Int32 → Int32 → Int32 → CM → Option ((Unit ⊕ Nat) × CM)) : Nat → Nat → Nat → Int32 → Int32 → Nat → Int32 → Int32 → Int32 → CM → Option (Int32 × CM)
  | 0, _, _, _, _, _, _, _, _, _ => none
  | n + 1, x1, x2, x4, x5, x6, x7, x8, x9, M =>
    if x4 ≤ x9 then
      some (x8, M)
    else
      ob (K_J2_get 101 x9 M) fun r46 M45 =>
      if r46 = 0 ∨ mk M45 r46 = 15 then
      if mk M45 x2 = 11 then
      if mk M45 r46 = 15 then
      ob (K_X15_leadsTo r46 (mI M45 2003 x2) M45) fun r53 M52 =>
      if r53 = 0 then
        nm (x9 + 1) fun v56 =>
        KL_X0_element_119 cf_X0_instances n x1 x2 x4 x5 x6 x7 x8 v56 M52
      else
        if mk M52 r46 = 15 then
        nm (msI M52 2803 r46 1) fun M58 =>
        if mk M58 r46 = 15 then
        if mk M58 (mR M58 2800 r46) = 12 then
        if mI M58 2203 (mR M58 2800 r46) < 0 then
          if mk M58 r46 = 15 then
          if mk M58 r46 = 15 then
          if mk M58 r46 = 15 then
          ob (K_X0_newRow (mR M58 2800 r46) ((mI M58 2801 r46) + 1) (mR M58 2802 r46) M58) fun r65 M64 =>
          nm (x9 + 1) fun v68 =>
          KL_X0_element_119 cf_X0_instances n x1 x2 x4 x5 x6 x7 x8 v68 M64
          else none
          else none
          else none
        else
          if 0 ≤ x8 then
            nm (x9 + 1) fun v69 =>
            KL_X0_element_119 cf_X0_instances n x1 x2 x4 x5 x6 x7 x8 v69 M58
          else
            if mk M58 r46 = 15 then
            if mk M58 (mR M58 2800 r46) = 12 then
            nm (mI M58 2203 (mR M58 2800 r46)) fun v72 =>
            nm (x9 + 1) fun v73 =>
            KL_X0_element_119 cf_X0_instances n x1 x2 x4 x5 x6 x7 v72 v73 M58
            else none
            else none
        else none
        else none
        else none
      else none
      else none
      else none
def KB_X0_element (cf_X0_instances : Nat → Nat → Int32 → Int32 → Int32 → CM → Option ((Unit ⊕ Nat) × CM)) (x1 : Nat) (x2 : Nat) (x3 : Int32) (x4 : Int32) (x5 : Int32) (M : CM) : Option ((Unit ⊕ Nat) × CM) :=
  if mk M x2 = 11 then
  if mk M x1 = 14 then
  ob (K_X14_member x1 (mI M 2003 x2) M) fun r4 M3 =>
  if r4 = 0 then
    ob (K_X0_newMember M3) fun r8 M7 =>
    if mk M7 x2 = 11 then
    if mk M7 r8 = 16 then
    nm (msI M7 3000 r8 (mI M7 2003 x2)) fun M13 =>
    if mk M13 x2 = 11 then
    if mk M13 r8 = 16 then
    nm (msI M13 3002 r8 (mI M13 2004 x2)) fun M16 =>
    if mk M16 r8 = 16 then
    nm (msR M16 3003 r8 x2) fun M18 =>
    if mk M18 x2 = 11 then
    if mk M18 r8 = 16 then
    nm (msI M18 3001 r8 (mI M18 2002 x2)) fun M21 =>
    if mk M21 x2 = 11 then
    ob (K_X11_isReal x2 M21) fun r24 M23 =>
    if mk M23 r8 = 16 then
    nm (msI M23 3004 r8 r24) fun M28 =>
    if mk M28 r8 = 16 then
    nm (msR M28 3006 r8 x1) fun M30 =>
    if mk M30 r8 = 16 then
    nm (msR M30 3007 r8 0) fun M32 =>
    if mk M32 x1 = 14 then
    if mk M32 (mR M32 2605 x1) = 22 then
    ob (K_J2_add (mR M32 2605 x1) r8 M32) fun r36 M35 =>
    if mk M35 x2 = 11 then
    ob (K_X11_is x2 9 M35) fun r41 M40 =>
    if r41 = 0 then
      nm (mI M40 18 1) fun v44 =>
      ob (KL_X0_element_119 cf_X0_instances FU x1 x2 x4 x5 r8 v44 (-1) x3 M40) fun q78 M79 =>
      if mk M79 x2 = 11 then
      ob (K_X0_addRows (mR M79 2006 x2) x1 M79) fun r83 M82 =>
      if mk M82 x2 = 11 then
      ob (K_X11_isReal x2 M82) fun r88 M87 =>
      if r88 = 0 then
        obS (cf_X0_instances x1 r8 v44 q78 x5 M87) (fun w95 M91 =>
            some (.inr w95, M91))
        fun r92 M91 =>
        nm (msI M91 18 1 v44) fun M96 =>
        some (.inl (), M96)
      else
        if q78 < 0 then
          obS (K_X0_variables x1 r8 v44 M87) (fun w101 M97 =>
              some (.inr w101, M97))
          fun r98 M97 =>
          nm (msI M97 18 1 v44) fun M102 =>
          some (.inl (), M102)
        else
          ob (K_X0_wrong 22 0 M87) fun r104 M103 =>
          if mk M103 r104 = 7 then
          some (.inr r104, M103)
          else none
      else none
      else none
    else
      ob (K_J2_add 102 r8 M40) fun r112 M111 =>
      some (.inl (), M111)
    else none
    else none
    else none
    else none
    else none
    else none
    else none
    else none
    else none
    else none
    else none
    else none
    else none
    else none
  else
    ob (K_X0_wrong 3 0 M3) fun r117 M116 =>
    if mk M116 r117 = 7 then
    some (.inr r117, M116)
    else none
  else none
  else none
def KL_X0_elements_30 (cf_X0_extended : Nat → Nat → Nat → Int32 → Int32 → Int32 → CM → Option ((Unit ⊕ Nat) × CM)) (cf_X0_element : Nat → Nat → Int32 → Int32 → Int32 → CM → Option ((Unit ⊕ Nat) × CM)) : Nat → Nat → Nat → Int32 → Int32 → Int32 → Int32 → CM → Option ((Unit ⊕ (Unit ⊕ Nat)) × CM)
  | 0, _, _, _, _, _, _, _ => none
  | n + 1, x1, x2, x3, x4, x5, x6, M =>
    if mk M x2 = 10 then
    if mk M (mR M 1802 x2) = 22 then
    ob (K_J2_size (mR M 1802 x2) M) fun r5 M4 =>
    if r5 ≤ x6 then
      some (.inl (), M4)
    else
      if mk M4 x2 = 10 then
      if mk M4 (mR M4 1802 x2) = 22 then
      ob (K_J2_get (mR M4 1802 x2) x6 M4) fun r11 M10 =>
      if r11 = 0 ∨ mk M10 r11 = 11 then
      if mk M10 r11 = 11 then
      if mI M10 2000 r11 = 0 then
        obS (cf_X0_element x1 r11 x3 x4 x5 M10) (fun w21 M17 =>
            some (.inr (.inr w21), M17))
        fun r18 M17 =>
        nm (x6 + 1) fun v22 =>
        KL_X0_elements_30 cf_X0_extended cf_X0_element n x1 x2 x3 x4 x5 v22 M17
      else
        if mk M10 r11 = 11 then
        ob (K_X0_model (mI M10 2002 r11) M10) fun r25 M24 =>
        if r25 = 0 then
          ob (K_X0_wrong 20 0 M24) fun r45 M44 =>
          if mk M44 r45 = 7 then
          some (.inr (.inr r45), M44)
          else none
        else
          if mk M24 r25 = 10 then
          if mk M24 x2 = 10 then
          if mI M24 1801 r25 = mI M24 1801 x2 then
            obS (cf_X0_extended x1 r25 r11 x3 x4 x5 M24) (fun w36 M32 =>
                some (.inr (.inr w36), M32))
            fun r33 M32 =>
            nm (x6 + 1) fun v37 =>
            KL_X0_elements_30 cf_X0_extended cf_X0_element n x1 x2 x3 x4 x5 v37 M32
          else
            ob (K_X0_wrong 22 0 M24) fun r39 M38 =>
            if mk M38 r39 = 7 then
            some (.inr (.inr r39), M38)
            else none
          else none
          else none
        else none
      else none
      else none
      else none
      else none
    else none
    else none
def KB_X0_elements (cf_X0_extended : Nat → Nat → Nat → Int32 → Int32 → Int32 → CM → Option ((Unit ⊕ Nat) × CM)) (cf_X0_element : Nat → Nat → Int32 → Int32 → Int32 → CM → Option ((Unit ⊕ Nat) × CM)) (x1 : Nat) (x2 : Nat) (x3 : Int32) (x4 : Int32) (x5 : Int32) (M : CM) : Option ((Unit ⊕ Nat) × CM) :=
  nm (msI M 31 1 ((mI M 31 1) + 1)) fun M1 =>
  if mI M1 31 1 ≤ 1000 then
    obS (KL_X0_elements_30 cf_X0_extended cf_X0_element FU x1 x2 x3 x4 x5 0 M1) (fun r56 M53 => some (r56, M53)) fun q52 M53 =>
    some (.inl (), M53)
  else
    ob (K_X0_wrong 24 0 M1) fun r58 M57 =>
    if mk M57 r58 = 7 then
    some (.inr r58, M57)
    else none
def KL_X0_extended_24 (cf_X0_elements : Nat → Nat → Int32 → Int32 → Int32 → CM → Option ((Unit ⊕ Nat) × CM)) : Nat → Nat → Nat → Nat → Int32 → Int32 → Int32 → Int32 → Int32 → CM → Option (Unit × CM)
  | 0, _, _, _, _, _, _, _, _, _ => none
  | n + 1, x1, x2, x3, x4, x5, x6, x7, x8, M =>
    if x5 ≤ x8 then
      some ((), M)
    else
      ob (K_J2_get 101 x8 M) fun r3 M2 =>
      if r3 = 0 ∨ mk M2 r3 = 15 then
      if mk M2 r3 = 15 then
      if mk M2 r3 = 15 then
      if mk M2 r3 = 15 then
      ob (K_X0_newRow (mR M2 2800 r3) (mI M2 2801 r3) (mR M2 2802 r3) M2) fun r11 M10 =>
      nm (x8 + 1) fun v14 =>
      KL_X0_extended_24 cf_X0_elements n x1 x2 x3 x4 x5 x6 x7 v14 M10
      else none
      else none
      else none
      else none
def KL_X0_extended_110 (cf_X0_elements : Nat → Nat → Int32 → Int32 → Int32 → CM → Option ((Unit ⊕ Nat) × CM)) : Nat → Int32 → Int32 → Int32 → Int32 → Int32 → CM → Option (Unit × CM)
  | 0, _, _, _, _, _, _ => none
  | n + 1, x4, x7, x8, x9, x10, M =>
    if x8 ≤ x10 then
      some ((), M)
    else
      ob (K_J2_get 101 ((x4 + x10) - x7) M) fun r32 M31 =>
      if r32 = 0 ∨ mk M31 r32 = 15 then
      if mk M31 r32 = 15 then
      ob (K_J2_get 101 x10 M31) fun r39 M38 =>
      if r39 = 0 ∨ mk M38 r39 = 15 then
      if mk M38 r39 = 15 then
      if mk M38 r32 = 15 then
      nm (msI M38 2803 r32 ((mI M31 2803 r32) ||| (mI M38 2803 r39))) fun M46 =>
      nm (x10 + 1) fun v47 =>
      KL_X0_extended_110 cf_X0_elements n x4 x7 x8 x9 v47 M46
      else none
      else none
      else none
      else none
      else none
def KB_X0_extended (cf_X0_elements : Nat → Nat → Int32 → Int32 → Int32 → CM → Option ((Unit ⊕ Nat) × CM)) (x1 : Nat) (x2 : Nat) (x3 : Nat) (x4 : Int32) (x5 : Int32) (x6 : Int32) (M : CM) : Option ((Unit ⊕ Nat) × CM) :=
  if x6 = 12 then
    ob (K_X0_wrong 23 0 M) fun r61 M60 =>
    if mk M60 r61 = 7 then
    some (.inr r61, M60)
    else none
  else
    nm (mI M 18 1) fun v1 =>
    ob (KL_X0_extended_24 cf_X0_elements FU x1 x2 x3 x4 x5 x6 v1 x4 M) fun q16 M17 =>
    nm (mI M17 18 1) fun v19 =>
    if mk M17 x3 = 11 then
    ob (K_X0_addRows (mR M17 2006 x3) x1 M17) fun r22 M21 =>
    nm (mI M21 18 1) fun v25 =>
    obS (cf_X0_elements x1 x2 v1 v25 (x6 + 1) M21) (fun w30 M26 =>
        some (.inr w30, M26))
    fun r27 M26 =>
    ob (KL_X0_extended_110 cf_X0_elements FU x4 v1 v19 v25 v1 M26) fun q49 M50 =>
    obS (K_X0_allHit v19 v25 M50) (fun w56 M52 =>
        some (.inr w56, M52))
    fun r53 M52 =>
    nm (msI M52 18 1 v1) fun M57 =>
    some (.inl (), M57)
    else none
def KL_X0_instances_122 (cf_X0_elements : Nat → Nat → Int32 → Int32 → Int32 → CM → Option ((Unit ⊕ Nat) × CM)) : Nat → Nat → Nat → Int32 → Int32 → Nat → Nat → Int32 → Int32 → Int32 → CM → Option (Unit × CM)
  | 0, _, _, _, _, _, _, _, _, _, _ => none
  | n + 1, x1, x2, x3, x5, x6, x7, x8, x9, x10, M =>
    if x8 ≤ x10 then
      some ((), M)
    else
      ob (K_J2_get 101 x10 M) fun r15 M14 =>
      if r15 = 0 ∨ mk M14 r15 = 15 then
      if mk M14 r15 = 15 then
      nm (msI M14 2803 r15 0) fun M20 =>
      nm (x10 + 1) fun v21 =>
      KL_X0_instances_122 cf_X0_elements n x1 x2 x3 x5 x6 x7 x8 x9 v21 M20
      else none
      else none
def KJ_X0_instances_195_110 (cf_X0_elements : Nat → Nat → Int32 → Int32 → Int32 → CM → Option ((Unit ⊕ Nat) × CM)) (rec : Nat → Nat → Int32 → Int32 → Nat → Nat → Int32 → Int32 → CM → Option ((Unit ⊕ (Unit ⊕ Nat)) × CM)) (x1 : Nat) (x2 : Nat) (x3 : Int32) (x5 : Int32) (x6 : Nat) (x7 : Nat) (x8 : Int32) (x9 : Int32) (x10 : Nat) (M : CM) : Option ((Unit ⊕ (Unit ⊕ Nat)) × CM) :=
  obS (cf_X0_elements x10 x7 x3 x8 (x5 + 1) M) (fun w38 M34 =>
      some (.inr (.inr w38), M34))
  fun r35 M34 =>
  obS (K_X0_allHit x3 x8 M34) (fun w43 M39 =>
      some (.inr (.inr w43), M39))
  fun r40 M39 =>
  nm (x9 + 1) fun v44 =>
  rec x1 x2 x3 x5 x6 x7 x8 v44 M39
def KJ_X0_instances_176_110 (cf_X0_elements : Nat → Nat → Int32 → Int32 → Int32 → CM → Option ((Unit ⊕ Nat) × CM)) (rec : Nat → Nat → Int32 → Int32 → Nat → Nat → Int32 → Int32 → CM → Option ((Unit ⊕ (Unit ⊕ Nat)) × CM)) (x1 : Nat) (x2 : Nat) (x3 : Int32) (x5 : Int32) (x6 : Nat) (x7 : Nat) (x8 : Int32) (x9 : Int32) (y0 : Nat) (y1 : Nat) (y2 : Nat) (y3 : Int32) (y4 : Int32) (M : CM) : Option ((Unit ⊕ (Unit ⊕ Nat)) × CM) :=
  if y0 = 1 ∧ mk M y0 = 1 then
  obS (K_X0_newInst y1 y2 y3 y4 M) (fun w33 M29 =>
      some (.inr (.inr w33), M29))
  fun r30 M29 =>
  if x9 = 0 then
    if mk M29 r30 = 14 then
    if mk M29 x2 = 16 then
    nm (msI M29 3005 x2 (mI M29 2600 r30)) fun M47 =>
    KJ_X0_instances_195_110 cf_X0_elements rec x1 x2 x3 x5 x6 x7 x8 x9 r30 M47
    else none
    else none
  else
    KJ_X0_instances_195_110 cf_X0_elements rec x1 x2 x3 x5 x6 x7 x8 x9 r30 M29
  else none
def KL_X0_instances_110 (cf_X0_elements : Nat → Nat → Int32 → Int32 → Int32 → CM → Option ((Unit ⊕ Nat) × CM)) : Nat → Nat → Nat → Int32 → Int32 → Nat → Nat → Int32 → Int32 → CM → Option ((Unit ⊕ (Unit ⊕ Nat)) × CM)
  | 0, _, _, _, _, _, _, _, _, _ => none
  | n + 1, x1, x2, x3, x5, x6, x7, x8, x9, M =>
    if mk M x2 = 16 then
    ob (K_X16_many x2 M) fun r11 M10 =>
    if r11 ≤ x9 then
      some (.inl (), M10)
    else
      ob (KL_X0_instances_122 cf_X0_elements FU x1 x2 x3 x5 x6 x7 x8 x9 x3 M10) fun q23 M24 =>
      if mk M24 x6 = 11 then
      if mk M24 x6 = 11 then
      if mI M24 2004 x6 = 0 then
        KJ_X0_instances_176_110 cf_X0_elements (KL_X0_instances_110 cf_X0_elements n) x1 x2 x3 x5 x6 x7 x8 x9 1 x1 x7 (mI M24 2003 x6) 0 M24
      else
        KJ_X0_instances_176_110 cf_X0_elements (KL_X0_instances_110 cf_X0_elements n) x1 x2 x3 x5 x6 x7 x8 x9 1 x1 x7 (mI M24 2003 x6) (x9 + 1) M24
      else none
      else none
    else none
def KJ_X0_instances_87 (cf_X0_elements : Nat → Nat → Int32 → Int32 → Int32 → CM → Option ((Unit ⊕ Nat) × CM)) (x1 : Nat) (x2 : Nat) (x3 : Int32) (x5 : Int32) (x6 : Nat) (x7 : Nat) (M : CM) : Option ((Unit ⊕ Nat) × CM) :=
  if x5 = 12 then
    ob (K_X0_wrong 23 0 M) fun r58 M57 =>
    if mk M57 r58 = 7 then
    some (.inr r58, M57)
    else none
  else
    nm (mI M 18 1) fun v8 =>
    obS (KL_X0_instances_110 cf_X0_elements FU x1 x2 x3 x5 x6 x7 v8 0 M) (fun r56 M53 => some (r56, M53)) fun q52 M53 =>
    some (.inl (), M53)
def KB_X0_instances (cf_X0_elements : Nat → Nat → Int32 → Int32 → Int32 → CM → Option ((Unit ⊕ Nat) × CM)) (x1 : Nat) (x2 : Nat) (x3 : Int32) (x4 : Int32) (x5 : Int32) (M : CM) : Option ((Unit ⊕ Nat) × CM) :=
  if mk M x2 = 16 then
  nm (mR M 3003 x2) fun v2 =>
  if mk M v2 = 11 then
  ob (K_X0_model (mI M 2002 v2) M) fun r5 M4 =>
  if r5 = 0 then
    ob (K_X0_wrong 20 0 M4) fun r98 M97 =>
    if mk M97 r98 = 7 then
    some (.inr r98, M97)
    else none
  else
    if x4 < 0 then
      KJ_X0_instances_87 cf_X0_elements x1 x2 x3 x5 v2 r5 M4
    else
      ob (K_X0_model x4 M4) fun r64 M63 =>
      if mk M63 v2 = 11 then
      ob (K_X11_is v2 10 M63) fun r69 M68 =>
      if r69 = 0 then
        ob (K_X0_wrong 22 0 M68) fun r73 M72 =>
        if mk M72 r73 = 7 then
        some (.inr r73, M72)
        else none
      else
        if r64 = 0 then
          ob (K_X0_wrong 22 0 M68) fun r78 M77 =>
          if mk M77 r78 = 7 then
          some (.inr r78, M77)
          else none
        else
          if mk M68 r64 = 10 then
          if mk M68 r5 = 10 then
          if mI M68 1801 r64 = mI M68 1801 r5 then
            if mk M68 x2 = 16 then
            nm (msI M68 3001 x2 x4) fun M87 =>
            KJ_X0_instances_87 cf_X0_elements x1 x2 x3 x5 v2 r64 M87
            else none
          else
            ob (K_X0_wrong 22 0 M68) fun r89 M88 =>
            if mk M88 r89 = 7 then
            some (.inr r89, M88)
            else none
          else none
          else none
      else none
  else none
  else none
def KG_X0_element : Nat → (Nat → Nat → Int32 → Int32 → Int32 → CM → Option ((Unit ⊕ Nat) × CM)) × (Nat → Nat → Int32 → Int32 → Int32 → CM → Option ((Unit ⊕ Nat) × CM)) × (Nat → Nat → Nat → Int32 → Int32 → Int32 → CM → Option ((Unit ⊕ Nat) × CM)) × (Nat → Nat → Int32 → Int32 → Int32 → CM → Option ((Unit ⊕ Nat) × CM))
  | 0 => (fun _ _ _ _ _ _ => none, fun _ _ _ _ _ _ => none, fun _ _ _ _ _ _ _ => none, fun _ _ _ _ _ _ => none)
  | d + 1 => (KB_X0_element (KG_X0_element d).2.2.2, KB_X0_elements (KG_X0_element d).2.2.1 (KG_X0_element d).1, KB_X0_extended (KG_X0_element d).2.1, KB_X0_instances (KG_X0_element d).2.1)
def K_X0_elements : Nat → Nat → Int32 → Int32 → Int32 → CM → Option ((Unit ⊕ Nat) × CM) := (KG_X0_element 300).2.1
def K_X0_size (x0 : Int32) (M : CM) : Option (Int32 × CM) :=
  if 0 ≤ x0 then
    some (x0, M)
  else
    some (-x0, M)
def KL_X0_eliminate_14 : Nat → Int32 → Int32 → Int32 → Int32 → CM → Option (Int32 × CM)
  | 0, _, _, _, _, _ => none
  | n + 1, x1, x2, x3, x4, M =>
    if x1 ≤ x4 then
      some (x3, M)
    else
      if inb ((25 * x4) + x2) 625 then
      ob (K_X0_size (mA M 149 (ix ((25 * x4) + x2))) M) fun r4 M3 =>
      if inb ((25 * x3) + x2) 625 then
      ob (K_X0_size (mA M3 149 (ix ((25 * x3) + x2))) M3) fun r9 M8 =>
      if r4 ≤ r9 then
        nm (x4 + 1) fun v12 =>
        KL_X0_eliminate_14 n x1 x2 x3 v12 M8
      else
        nm (x4 + 1) fun v13 =>
        KL_X0_eliminate_14 n x1 x2 x4 v13 M8
      else none
      else none
def KL_X0_eliminate_89 : Nat → Int32 → Int32 → Int32 → Int32 → CM → Option (Unit × CM)
  | 0, _, _, _, _, _ => none
  | n + 1, x1, x2, x3, x4, M =>
    if x3 = x2 then
      some ((), M)
    else
      if x1 < x4 then
        some ((), M)
      else
        if inb ((25 * x3) + x4) 625 then
        nm (mA M 149 (ix ((25 * x3) + x4))) fun v21 =>
        if inb ((25 * x2) + x4) 625 then
        if inb ((25 * x3) + x4) 625 then
        nm (mwA M 149 (ix ((25 * x3) + x4)) (mA M 149 (ix ((25 * x2) + x4)))) fun M24 =>
        if inb ((25 * x2) + x4) 625 then
        nm (mwA M24 149 (ix ((25 * x2) + x4)) v21) fun M26 =>
        nm (x4 + 1) fun v27 =>
        KL_X0_eliminate_89 n x1 x2 x3 v27 M26
        else none
        else none
        else none
        else none
def KL_X0_eliminate_215 : Nat → Int32 → Int32 → Int32 → Int32 → Int32 → CM → Option ((Unit ⊕ (Unit ⊕ Nat)) × CM)
  | 0, _, _, _, _, _, _ => none
  | n + 1, x1, x2, x4, x5, x6, M =>
    if x1 < x6 then
      some (.inl (), M)
    else
      if inb ((25 * x4) + x6) 625 then
      if inb ((25 * x2) + x6) 625 then
      obS (K_X19_times x5 (mA M 149 (ix ((25 * x2) + x6))) M) (fun w50 M46 =>
          some (.inr (.inr w50), M46))
      fun r47 M46 =>
      obS (K_X19_in (((mA M 149 (ix ((25 * x4) + x6))).toInt64) - ((r47).toInt64)) M46) (fun w55 M51 =>
          some (.inr (.inr w55), M51))
      fun r52 M51 =>
      if inb ((25 * x4) + x6) 625 then
      nm (mwA M51 149 (ix ((25 * x4) + x6)) r52) fun M57 =>
      nm (x6 + 1) fun v58 =>
      KL_X0_eliminate_215 n x1 x2 x4 x5 v58 M57
      else none
      else none
      else none
def KL_X0_eliminate_163 : Nat → Int32 → Int32 → Int32 → CM → Option ((Unit ⊕ (Unit ⊕ Nat)) × CM)
  | 0, _, _, _, _ => none
  | n + 1, x1, x2, x4, M =>
    if x1 ≤ x4 then
      some (.inl (), M)
    else
      if inb ((25 * x4) + x2) 625 then
      if inb ((25 * x2) + x2) 625 then
      obS (K_X19_over (mA M 149 (ix ((25 * x4) + x2))) (mA M 149 (ix ((25 * x2) + x2))) M) (fun w40 M36 =>
          some (.inr (.inr w40), M36))
      fun r37 M36 =>
      if inb ((25 * x4) + x2) 625 then
      nm (mwA M36 149 (ix ((25 * x4) + x2)) 0) fun M42 =>
      nm (x2 + 1) fun v43 =>
      obS (KL_X0_eliminate_215 FU x1 x2 x4 r37 v43 M42) (fun r65 M61 => some (.inr r65, M61)) fun q60 M61 =>
      nm (x4 + 1) fun v63 =>
      KL_X0_eliminate_163 n x1 x2 v63 M61
      else none
      else none
      else none
def KJ_X0_eliminate_158_2 (rec : Int32 → Int32 → CM → Option ((Unit ⊕ (Unit ⊕ Nat)) × CM)) (x1 : Int32) (x2 : Int32) (M : CM) : Option ((Unit ⊕ (Unit ⊕ Nat)) × CM) :=
  nm (x2 + 1) fun v33 =>
  obS (KL_X0_eliminate_163 FU x1 x2 v33 M) (fun r72 M68 => some (.inr r72, M68)) fun q67 M68 =>
  nm (x2 + 1) fun v70 =>
  rec x1 v70 M68
def KL_X0_eliminate_2 : Nat → Int32 → Int32 → CM → Option ((Unit ⊕ (Unit ⊕ Nat)) × CM)
  | 0, _, _, _ => none
  | n + 1, x1, x2, M =>
    if x1 ≤ x2 then
      some (.inl (), M)
    else
      nm (x2 + 1) fun v1 =>
      ob (KL_X0_eliminate_14 FU x1 x2 x2 v1 M) fun q16 M17 =>
      if inb ((25 * q16) + x2) 625 then
      if mA M17 149 (ix ((25 * q16) + x2)) = 0 then
        ob (K_X0_wrong 43 0 M17) fun r75 M74 =>
        if mk M74 r75 = 7 then
        some (.inr (.inr r75), M74)
        else none
      else
        ob (KL_X0_eliminate_89 FU x1 x2 q16 0 M17) fun q30 M31 =>
        KJ_X0_eliminate_158_2 (KL_X0_eliminate_2 n) x1 x2 M31
      else none
def KL_X0_eliminate_313 : Nat → Int32 → Int32 → Int32 → Int32 → CM → Option ((Int32 ⊕ (Unit ⊕ Nat)) × CM)
  | 0, _, _, _, _, _ => none
  | n + 1, x1, x2, x3, x4, M =>
    if x1 ≤ x4 then
      some (.inl x3, M)
    else
      if inb ((25 * x2) + x4) 625 then
      if inb x4 25 then
      obS (K_X19_times (mA M 149 (ix ((25 * x2) + x4))) (mA M 150 (ix x4)) M) (fun w95 M91 =>
          some (.inr (.inr w95), M91))
      fun r92 M91 =>
      obS (K_X19_in (((x3).toInt64) - ((r92).toInt64)) M91) (fun w100 M96 =>
          some (.inr (.inr w100), M96))
      fun r97 M96 =>
      nm (x4 + 1) fun v101 =>
      KL_X0_eliminate_313 n x1 x2 r97 v101 M96
      else none
      else none
def KL_X0_eliminate_292 : Nat → Int32 → Int32 → CM → Option ((Unit ⊕ (Unit ⊕ Nat)) × CM)
  | 0, _, _, _ => none
  | n + 1, x1, x2, M =>
    if x2 < 0 then
      some (.inl (), M)
    else
      if inb ((25 * x2) + x1) 625 then
      nm (mA M 149 (ix ((25 * x2) + x1))) fun v87 =>
      nm (x2 + 1) fun v88 =>
      obS (KL_X0_eliminate_313 FU x1 x2 v87 v88 M) (fun r116 M104 => some (.inr r116, M104)) fun q103 M104 =>
      if inb ((25 * x2) + x2) 625 then
      obS (K_X19_over q103 (mA M104 149 (ix ((25 * x2) + x2))) M104) (fun w111 M107 =>
          some (.inr (.inr w111), M107))
      fun r108 M107 =>
      if inb x2 25 then
      nm (mwA M107 150 (ix x2) r108) fun M113 =>
      nm (x2 + (-1)) fun v114 =>
      KL_X0_eliminate_292 n x1 v114 M113
      else none
      else none
      else none
def K_X0_eliminate (x1 : Int32) (M : CM) : Option ((Unit ⊕ Nat) × CM) :=
  obS (KL_X0_eliminate_2 FU x1 0 M) (fun r124 M83 => some (r124, M83)) fun q82 M83 =>
  nm (x1 - 1) fun v85 =>
  obS (KL_X0_eliminate_292 FU x1 v85 M83) (fun r122 M119 => some (r122, M119)) fun q118 M119 =>
  some (.inl (), M119)
def K_X0_end (x1 : Int32) (M : CM) : Option (Int32 × CM) :=
  if x1 < 0 then
    some ((-1), M)
  else
    if x1 ≤ mI M 1 1 then
      nm (msI M 1 1 x1) fun M1 =>
      some (x1, M1)
    else
      some ((-1), M)
def KL_X0_equation_2_86 : Nat → Int32 → Int32 → Int32 → Int32 → CM → Option ((Int32 ⊕ Int32) × CM)
  | 0, _, _, _, _, _ => none
  | n + 1, x1, x2, x3, x4, M =>
    if mI M 57 1 ≤ x4 then
      some (.inl x3, M)
    else
      if inb ((180 * x1) + x4) 32400 then
      if mA M 132 (ix ((180 * x1) + x4)) = 0 then
        nm (x4 + 1) fun v4 =>
        KL_X0_equation_2_86 n x1 x2 x3 v4 M
      else
        if x3 = x2 - 4 then
          some (.inr x4, M)
        else
          nm (x3 + 1) fun v5 =>
          nm (x4 + 1) fun v6 =>
          KL_X0_equation_2_86 n x1 x2 v5 v6 M
      else none
def K_X0_equation_2 (x1 : Int32) (x2 : Int32) (M : CM) : Option (Int32 × CM) :=
  if mI M 46 1 = 0 then
    some ((-4), M)
  else
    if x1 < 0 then
      some ((-2), M)
    else
      if x1 < mI M 65 1 then
        if 0 ≤ x2 then
          if 3 ≤ x2 then
            obS (KL_X0_equation_2_86 FU x1 x2 0 0 M) (fun r15 M11 => some (r15, M11)) fun q10 M11 =>
            if x2 = 3 then
              some (q10, M11)
            else
              some ((-2), M11)
          else
            if x2 = 0 then
              if inb x1 180 then
              nm (mA M 129 (ix x1)) fun v24 =>
              if 0 ≤ v24 then
                some (v24, M)
              else
                some ((-2), M)
              else none
            else
              if x2 = 1 then
                if inb x1 180 then
                nm (mA M 130 (ix x1)) fun v20 =>
                if 0 ≤ v20 then
                  some (v20, M)
                else
                  some ((-2), M)
                else none
              else
                if inb x1 180 then
                nm (mA M 131 (ix x1)) fun v17 =>
                if 0 ≤ v17 then
                  some (v17, M)
                else
                  some ((-2), M)
                else none
        else
          some ((-1), M)
      else
        some ((-2), M)
def KL_X0_preOfDiscretes_2 : Nat → Int32 → CM → Option (Unit × CM)
  | 0, _, _ => none
  | n + 1, x1, M =>
    if mI M 15 1 ≤ x1 then
      some ((), M)
    else
      ob (K_J2_get 98 x1 M) fun r2 M1 =>
      if r2 = 0 ∨ mk M1 r2 = 17 then
      if mk M1 r2 = 17 then
      if mI M1 3203 r2 = 2 then
        if mk M1 r2 = 17 then
        if mk M1 r2 = 17 then
        nm (msI M1 3214 r2 (mI M1 3213 r2)) fun M10 =>
        nm (x1 + 1) fun v11 =>
        KL_X0_preOfDiscretes_2 n v11 M10
        else none
        else none
      else
        nm (x1 + 1) fun v7 =>
        KL_X0_preOfDiscretes_2 n v7 M1
      else none
      else none
def K_X0_preOfDiscretes (M : CM) : Option (Unit × CM) :=
  ob (KL_X0_preOfDiscretes_2 FU 0 M) fun q14 M15 =>
  some ((), M15)
def K_X0_isDue (x1 : Nat) (M : CM) : Option (Int32 × CM) :=
  if mk M x1 = 18 then
  if mI M 85 1 < mI M 3401 x1 then
    some (0, M)
  else
    if mk M x1 = 18 then
    if mk M x1 = 18 then
    if ¬ ((mI M 3402 x1).toInt64) = 0 then
    if lg_cmp ((((mI M 85 1).toInt64) - ((mI M 3401 x1).toInt64)) - (((mI M 85 1).toInt64) - ((mI M 3401 x1).toInt64)) / ((mI M 3402 x1).toInt64) * ((mI M 3402 x1).toInt64)) 0 = 0 then
      some (1, M)
    else
      some (0, M)
    else none
    else none
    else none
  else none
def K_X0_residual (x1 : Int32) (M : CM) : Option ((Int32 ⊕ Nat) × CM) :=
  if inb x1 180 then
  obS (K_X0_val (mX M 126 (ix x1)) M) (fun w6 M2 =>
      some (.inr w6, M2))
  fun r3 M2 =>
  if inb x1 180 then
  obS (K_X0_val (mX M2 127 (ix x1)) M2) (fun w12 M8 =>
      some (.inr w12, M8))
  fun r9 M8 =>
  obS (K_X19_in (((r3).toInt64) - ((r9).toInt64)) M8) (fun w17 M13 =>
      some (.inr w17, M13))
  fun r14 M13 =>
  some (.inl r14, M13)
  else none
  else none
def K_X0_solveOne (x1 : Int32) (M : CM) : Option ((Unit ⊕ Nat) × CM) :=
  if inb x1 181 then
  if inb (mA M 141 (ix x1)) 180 then
  nm (mA M 142 (ix (mA M 141 (ix x1)))) fun v3 =>
  if inb x1 181 then
  if inb (mA M 141 (ix x1)) 180 then
  nm (mA M 143 (ix (mA M 141 (ix x1)))) fun v6 =>
  if inb v6 180 then
  nm (mwA M 124 (ix v6) 0) fun M8 =>
  obS (K_X0_residual v3 M8) (fun w13 M9 =>
      some (.inr w13, M9))
  fun r10 M9 =>
  if inb v6 180 then
  nm (mwA M9 124 (ix v6) 65536) fun M15 =>
  obS (K_X0_residual v3 M15) (fun w20 M16 =>
      some (.inr w20, M16))
  fun r17 M16 =>
  obS (K_X19_in (((r17).toInt64) - ((r10).toInt64)) M16) (fun w25 M21 =>
      some (.inr w25, M21))
  fun r22 M21 =>
  if r22 = 0 then
    ob (K_X0_wrong 43 x1 M21) fun r34 M33 =>
    if mk M33 r34 = 7 then
    some (.inr r34, M33)
    else none
  else
    obS (K_X19_over (-r10) r22 M21) (fun w30 M26 =>
        some (.inr w30, M26))
    fun r27 M26 =>
    if inb v6 180 then
    nm (mwA M26 124 (ix v6) r27) fun M32 =>
    some (.inl (), M32)
    else none
  else none
  else none
  else none
  else none
  else none
  else none
def KJ_X0_part_347 (cf_X0_part : Nat → Int32 → CM → Option ((Int32 ⊕ Nat) × CM)) (x1 : Nat) (x2 : Int32) (x3 : Int32) (y0 : Int32) (M : CM) : Option ((Int32 ⊕ Nat) × CM) :=
  if mk M x1 = 18 then
  obS (K_X0_val (mR M 3406 x1) M) (fun w201 M197 =>
      some (.inr w201, M197))
  fun r198 M197 =>
  ob (K_X0_compare y0 x3 r198 M197) fun r203 M202 =>
  if r203 = 0 then
    if mk M202 x1 = 18 then
    obS (cf_X0_part (mR M202 3406 x1) x2 M202) (fun w211 M207 =>
        some (.inr w211, M207))
    fun r208 M207 =>
    some (.inl r208, M207)
    else none
  else
    if mk M202 x1 = 18 then
    obS (cf_X0_part (mR M202 3405 x1) x2 M202) (fun w217 M213 =>
        some (.inr w217, M213))
    fun r214 M213 =>
    some (.inl r214, M213)
    else none
  else none
def KB_X0_part (cf_X0_part : Nat → Int32 → CM → Option ((Int32 ⊕ Nat) × CM)) (x1 : Nat) (x2 : Int32) (M : CM) : Option ((Int32 ⊕ Nat) × CM) :=
  if mk M x1 = 18 then
  if mI M 3400 x1 = 3 then
    if mk M x1 = 18 then
    obS (cf_X0_part (mR M 3405 x1) x2 M) (fun w8 M4 =>
        some (.inr w8, M4))
    fun r5 M4 =>
    if mk M4 x1 = 18 then
    if mk M4 x1 = 18 then
    obS (cf_X0_part (mR M4 3406 x1) x2 M4) (fun w15 M11 =>
        some (.inr w15, M11))
    fun r12 M11 =>
    obS (K_X0_two (mI M4 3400 x1) r5 r12 M11) (fun w20 M16 =>
        some (.inr w20, M16))
    fun r17 M16 =>
    some (.inl r17, M16)
    else none
    else none
    else none
  else
  if mI M 3400 x1 = 4 then
    if mk M x1 = 18 then
    obS (cf_X0_part (mR M 3405 x1) x2 M) (fun w27 M23 =>
        some (.inr w27, M23))
    fun r24 M23 =>
    if mk M23 x1 = 18 then
    if mk M23 x1 = 18 then
    obS (cf_X0_part (mR M23 3406 x1) x2 M23) (fun w34 M30 =>
        some (.inr w34, M30))
    fun r31 M30 =>
    obS (K_X0_two (mI M23 3400 x1) r24 r31 M30) (fun w39 M35 =>
        some (.inr w39, M35))
    fun r36 M35 =>
    some (.inl r36, M35)
    else none
    else none
    else none
  else
  if mI M 3400 x1 = 5 then
    if mk M x1 = 18 then
    obS (cf_X0_part (mR M 3405 x1) x2 M) (fun w46 M42 =>
        some (.inr w46, M42))
    fun r43 M42 =>
    if mk M42 x1 = 18 then
    obS (K_X0_val (mR M42 3406 x1) M42) (fun w52 M48 =>
        some (.inr w52, M48))
    fun r49 M48 =>
    obS (K_X19_times r43 r49 M48) (fun w57 M53 =>
        some (.inr w57, M53))
    fun r54 M53 =>
    if mk M53 x1 = 18 then
    obS (K_X0_val (mR M53 3405 x1) M53) (fun w63 M59 =>
        some (.inr w63, M59))
    fun r60 M59 =>
    if mk M59 x1 = 18 then
    obS (cf_X0_part (mR M59 3406 x1) x2 M59) (fun w69 M65 =>
        some (.inr w69, M65))
    fun r66 M65 =>
    obS (K_X19_times r60 r66 M65) (fun w74 M70 =>
        some (.inr w74, M70))
    fun r71 M70 =>
    obS (K_X19_in (((r54).toInt64) + ((r71).toInt64)) M70) (fun w79 M75 =>
        some (.inr w79, M75))
    fun r76 M75 =>
    some (.inl r76, M75)
    else none
    else none
    else none
    else none
  else
  if mI M 3400 x1 = 6 then
    if mk M x1 = 18 then
    obS (cf_X0_part (mR M 3405 x1) x2 M) (fun w86 M82 =>
        some (.inr w86, M82))
    fun r83 M82 =>
    if mk M82 x1 = 18 then
    obS (K_X0_val (mR M82 3405 x1) M82) (fun w92 M88 =>
        some (.inr w92, M88))
    fun r89 M88 =>
    if mk M88 x1 = 18 then
    obS (K_X0_val (mR M88 3406 x1) M88) (fun w98 M94 =>
        some (.inr w98, M94))
    fun r95 M94 =>
    obS (K_X19_over r89 r95 M94) (fun w103 M99 =>
        some (.inr w103, M99))
    fun r100 M99 =>
    if mk M99 x1 = 18 then
    obS (cf_X0_part (mR M99 3406 x1) x2 M99) (fun w109 M105 =>
        some (.inr w109, M105))
    fun r106 M105 =>
    obS (K_X19_times r100 r106 M105) (fun w114 M110 =>
        some (.inr w114, M110))
    fun r111 M110 =>
    obS (K_X19_in (((r83).toInt64) - ((r111).toInt64)) M110) (fun w119 M115 =>
        some (.inr w119, M115))
    fun r116 M115 =>
    if mk M115 x1 = 18 then
    obS (K_X0_val (mR M115 3406 x1) M115) (fun w125 M121 =>
        some (.inr w125, M121))
    fun r122 M121 =>
    obS (K_X19_over r116 r122 M121) (fun w130 M126 =>
        some (.inr w130, M126))
    fun r127 M126 =>
    some (.inl r127, M126)
    else none
    else none
    else none
    else none
    else none
  else
  if mI M 3400 x1 = 7 then
    if mk M x1 = 18 then
    obS (cf_X0_part (mR M 3405 x1) x2 M) (fun w137 M133 =>
        some (.inr w137, M133))
    fun r134 M133 =>
    some (.inl (-r134), M133)
    else none
  else
  if mI M 3400 x1 = 8 then
    if mk M x1 = 18 then
    obS (K_X0_val (mR M 3405 x1) M) (fun w144 M140 =>
        some (.inr w144, M140))
    fun r141 M140 =>
    ob (K_X19_sign r141 M140) fun r146 M145 =>
    if mk M145 x1 = 18 then
    obS (cf_X0_part (mR M145 3405 x1) x2 M145) (fun w154 M150 =>
        some (.inr w154, M150))
    fun r151 M150 =>
    obS (K_X19_times r146 r151 M150) (fun w159 M155 =>
        some (.inr w159, M155))
    fun r156 M155 =>
    some (.inl r156, M155)
    else none
    else none
  else
  if mI M 3400 x1 = 9 then
    if mk M x1 = 18 then
    obS (cf_X0_part (mR M 3405 x1) x2 M) (fun w166 M162 =>
        some (.inr w166, M162))
    fun r163 M162 =>
    if mk M162 x1 = 18 then
    obS (K_X0_val (mR M162 3405 x1) M162) (fun w172 M168 =>
        some (.inr w172, M168))
    fun r169 M168 =>
    obS (K_X19_root r169 M168) (fun w177 M173 =>
        some (.inr w177, M173))
    fun r174 M173 =>
    obS (K_X19_times 131072 r174 M173) (fun w182 M178 =>
        some (.inr w182, M178))
    fun r179 M178 =>
    obS (K_X19_over r163 r179 M178) (fun w187 M183 =>
        some (.inr w187, M183))
    fun r184 M183 =>
    some (.inl r184, M183)
    else none
    else none
  else
  if mI M 3400 x1 = 10 then
    if mk M x1 = 18 then
    obS (K_X0_val (mR M 3405 x1) M) (fun w194 M190 =>
        some (.inr w194, M190))
    fun r191 M190 =>
    if mk M190 x1 = 18 then
    if mI M190 3400 x1 = 10 then
      KJ_X0_part_347 cf_X0_part x1 x2 r191 22 M190
    else
      KJ_X0_part_347 cf_X0_part x1 x2 r191 23 M190
    else none
    else none
  else
  if mI M 3400 x1 = 11 then
    if mk M x1 = 18 then
    obS (K_X0_val (mR M 3405 x1) M) (fun w226 M222 =>
        some (.inr w226, M222))
    fun r223 M222 =>
    if mk M222 x1 = 18 then
    if mI M222 3400 x1 = 10 then
      KJ_X0_part_347 cf_X0_part x1 x2 r223 22 M222
    else
      KJ_X0_part_347 cf_X0_part x1 x2 r223 23 M222
    else none
    else none
  else
  if mI M 3400 x1 = 12 then
    some (.inl 0, M)
  else
  if mI M 3400 x1 = 13 then
    some (.inl 0, M)
  else
  if mI M 3400 x1 = 14 then
    if mk M x1 = 18 then
    obS (K_X0_is (mR M 3405 x1) M) (fun w237 M233 =>
        some (.inr w237, M233))
    fun r234 M233 =>
    if r234 = 0 then
      if mk M233 x1 = 18 then
      obS (cf_X0_part (mR M233 3407 x1) x2 M233) (fun w243 M239 =>
          some (.inr w243, M239))
      fun r240 M239 =>
      some (.inl r240, M239)
      else none
    else
      if mk M233 x1 = 18 then
      obS (cf_X0_part (mR M233 3406 x1) x2 M233) (fun w249 M245 =>
          some (.inr w249, M245))
      fun r246 M245 =>
      some (.inl r246, M245)
      else none
    else none
  else
  if mI M 3400 x1 = 15 then
    some (.inl 0, M)
  else
  if mI M 3400 x1 = 16 then
    some (.inl 0, M)
  else
  if mI M 3400 x1 = 17 then
    if mk M x1 = 18 then
    if mI M 3401 x1 = x2 then
      some (.inl 65536, M)
    else
      some (.inl 0, M)
    else none
  else
  some (.inl 0, M)
  else none
def KG_X0_part : Nat → (Nat → Int32 → CM → Option ((Int32 ⊕ Nat) × CM))
  | 0 => (fun _ _ _ => none)
  | d + 1 => (KB_X0_part (KG_X0_part d))
def K_X0_part : Nat → Int32 → CM → Option ((Int32 ⊕ Nat) × CM) := (KG_X0_part 300)
def KL_X0_solveMany_69 : Nat → Int32 → Int32 → Int32 → Int32 → Int32 → Int32 → Int32 → Int32 → CM → Option ((Unit ⊕ (Unit ⊕ Nat)) × CM)
  | 0, _, _, _, _, _, _, _, _, _ => none
  | n + 1, x1, x2, x3, x4, x5, x6, x7, x8, M =>
    if x3 ≤ x8 then
      some (.inl (), M)
    else
      if inb x6 180 then
      if inb (x2 + x8) 180 then
      obS (K_X0_part (mX M 126 (ix x6)) (mA M 143 (ix (x2 + x8))) M) (fun w19 M15 =>
          some (.inr (.inr w19), M15))
      fun r16 M15 =>
      if inb x6 180 then
      if inb (x2 + x8) 180 then
      obS (K_X0_part (mX M15 127 (ix x6)) (mA M15 143 (ix (x2 + x8))) M15) (fun w26 M22 =>
          some (.inr (.inr w26), M22))
      fun r23 M22 =>
      obS (K_X19_in (((r16).toInt64) - ((r23).toInt64)) M22) (fun w31 M27 =>
          some (.inr (.inr w31), M27))
      fun r28 M27 =>
      if inb ((25 * x5) + x8) 625 then
      nm (mwA M27 149 (ix ((25 * x5) + x8)) r28) fun M33 =>
      nm (x8 + 1) fun v34 =>
      KL_X0_solveMany_69 n x1 x2 x3 x4 x5 x6 x7 v34 M33
      else none
      else none
      else none
      else none
      else none
def KL_X0_solveMany_41 : Nat → Int32 → Int32 → Int32 → Int32 → Int32 → CM → Option ((Unit ⊕ (Unit ⊕ Nat)) × CM)
  | 0, _, _, _, _, _, _ => none
  | n + 1, x1, x2, x3, x4, x5, M =>
    if x3 ≤ x5 then
      some (.inl (), M)
    else
      if inb (x2 + x5) 180 then
      nm (mA M 142 (ix (x2 + x5))) fun v7 =>
      obS (K_X0_residual v7 M) (fun w12 M8 =>
          some (.inr (.inr w12), M8))
      fun r9 M8 =>
      obS (KL_X0_solveMany_69 FU x1 x2 x3 x4 x5 v7 r9 0 M8) (fun r43 M37 => some (.inr r43, M37)) fun q36 M37 =>
      if inb ((25 * x5) + x3) 625 then
      nm (mwA M37 149 (ix ((25 * x5) + x3)) (-r9)) fun M40 =>
      nm (x5 + 1) fun v41 =>
      KL_X0_solveMany_41 n x1 x2 x3 x4 v41 M40
      else none
      else none
def KL_X0_solveMany_176 : Nat → Int32 → Int32 → Int32 → Int32 → Int32 → Int32 → CM → Option ((Int32 ⊕ (Unit ⊕ Nat)) × CM)
  | 0, _, _, _, _, _, _, _ => none
  | n + 1, x1, x2, x3, x4, x5, x6, M =>
    if x3 ≤ x6 then
      some (.inl x5, M)
    else
      if inb (x2 + x6) 180 then
      nm (mA M 143 (ix (x2 + x6))) fun v54 =>
      if inb v54 180 then
      if inb x6 25 then
      obS (K_X19_in (((mA M 124 (ix v54)).toInt64) + ((mA M 150 (ix x6)).toInt64)) M) (fun w61 M57 =>
          some (.inr (.inr w61), M57))
      fun r58 M57 =>
      if inb v54 180 then
      nm (mwA M57 124 (ix v54) r58) fun M63 =>
      if inb x6 25 then
      if mA M63 150 (ix x6) < (-2) then
        nm (x5 &&& 0) fun v65 =>
        nm (x6 + 1) fun v66 =>
        KL_X0_solveMany_176 n x1 x2 x3 x4 v65 v66 M63
      else
        if inb x6 25 then
        if 2 < mA M63 150 (ix x6) then
          nm (x5 &&& 0) fun v68 =>
          nm (x6 + 1) fun v69 =>
          KL_X0_solveMany_176 n x1 x2 x3 x4 v68 v69 M63
        else
          nm (x5 &&& 1) fun v70 =>
          nm (x6 + 1) fun v71 =>
          KL_X0_solveMany_176 n x1 x2 x3 x4 v70 v71 M63
        else none
      else none
      else none
      else none
      else none
      else none
def KL_X0_solveMany_21 : Nat → Int32 → Int32 → Int32 → Int32 → CM → Option ((Unit ⊕ (Unit ⊕ Nat)) × CM)
  | 0, _, _, _, _, _ => none
  | n + 1, x1, x2, x3, x4, M =>
    if 15 ≤ x4 then
      some (.inl (), M)
    else
      nm (msI M 90 1 ((mI M 90 1) + 1)) fun M5 =>
      obS (KL_X0_solveMany_41 FU x1 x2 x3 x4 0 M5) (fun r84 M46 => some (.inr r84, M46)) fun q45 M46 =>
      obS (K_X0_eliminate x3 M46) (fun w52 M48 =>
          some (.inr (.inr w52), M48))
      fun r49 M48 =>
      obS (KL_X0_solveMany_176 FU x1 x2 x3 x4 1 0 M48) (fun r82 M76 => some (.inr r82, M76)) fun q75 M76 =>
      if q75 = 0 then
        nm (x4 + 1) fun v79 =>
        KL_X0_solveMany_21 n x1 x2 x3 v79 M76
      else
        some (.inr (.inl ()), M76)
def K_X0_solveMany (x1 : Int32) (M : CM) : Option ((Unit ⊕ Nat) × CM) :=
  if inb x1 181 then
  nm (mA M 141 (ix x1)) fun v2 =>
  if inb (x1 + 1) 181 then
  nm ((mA M 141 (ix (x1 + 1))) - v2) fun v4 =>
  obS (KL_X0_solveMany_21 FU x1 v2 v4 0 M) (fun r95 M87 => some (r95, M87)) fun q86 M87 =>
  ob (K_X0_wrong 44 x1 M87) fun r90 M89 =>
  if mk M89 r90 = 7 then
  some (.inr r90, M89)
  else none
  else none
  else none
def KL_X0_solveBlocks_2 : Nat → Int32 → CM → Option ((Unit ⊕ (Unit ⊕ Nat)) × CM)
  | 0, _, _ => none
  | n + 1, x1, M =>
    if mI M 75 1 ≤ x1 then
      some (.inl (), M)
    else
      if inb x1 180 then
      if mA M 144 (ix x1) = 0 then
        obS (K_X0_solveMany x1 M) (fun w7 M3 =>
            if mk M3 w7 = 7 then
            ob (K_X0_wrong (mI M3 1200 w7) x1 M3) fun r10 M9 =>
            if mk M9 r10 = 7 then
            some (.inr (.inr r10), M9)
            else none
            else none)
        fun r4 M3 =>
        nm (x1 + 1) fun v14 =>
        KL_X0_solveBlocks_2 n v14 M3
      else
        obS (K_X0_solveOne x1 M) (fun w19 M15 =>
            if mk M15 w19 = 7 then
            ob (K_X0_wrong (mI M15 1200 w19) x1 M15) fun r22 M21 =>
            if mk M21 r22 = 7 then
            some (.inr (.inr r22), M21)
            else none
            else none)
        fun r16 M15 =>
        nm (x1 + 1) fun v26 =>
        KL_X0_solveBlocks_2 n v26 M15
      else none
def K_X0_solveBlocks (M : CM) : Option ((Unit ⊕ Nat) × CM) :=
  obS (KL_X0_solveBlocks_2 FU 0 M) (fun r33 M30 => some (r33, M30)) fun q29 M30 =>
  some (.inl (), M30)
def KL_X0_findRelations_4 : Nat → Int32 → Int32 → CM → Option ((Int32 ⊕ (Int32 ⊕ Nat)) × CM)
  | 0, _, _, _ => none
  | n + 1, x1, x2, M =>
    if mI M 41 1 ≤ x2 then
      some (.inl x1, M)
    else
      if inb x2 24 then
      nm (mX M 137 (ix x2)) fun v2 =>
      if mk M v2 = 18 then
      if mI M 3400 v2 = 29 then
        nm (x2 + 1) fun v4 =>
        KL_X0_findRelations_4 n x1 v4 M
      else
        obS (K_X0_live v2 M) (fun w9 M5 =>
            some (.inr (.inr w9), M5))
        fun r6 M5 =>
        if inb x2 24 then
        if r6 = mA M5 148 (ix x2) then
          nm (x1 ||| 0) fun v12 =>
          if inb x2 24 then
          nm (mwA M5 148 (ix x2) (nZ r6)) fun M14 =>
          nm (x2 + 1) fun v15 =>
          KL_X0_findRelations_4 n v12 v15 M14
          else none
        else
          nm (x1 ||| 1) fun v16 =>
          if inb x2 24 then
          nm (mwA M5 148 (ix x2) (nZ r6)) fun M18 =>
          nm (x2 + 1) fun v19 =>
          KL_X0_findRelations_4 n v16 v19 M18
          else none
        else none
      else none
      else none
def K_X0_findRelations (M : CM) : Option ((Int32 ⊕ Nat) × CM) :=
  obS (KL_X0_findRelations_4 FU 0 0 M) (fun r28 M24 => some (r28, M24)) fun q23 M24 =>
  some (.inl q23, M24)
