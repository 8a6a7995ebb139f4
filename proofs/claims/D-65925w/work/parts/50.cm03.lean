set_option maxRecDepth 100000
def KL_X0_fire_4 : Nat → Int32 → Int32 → Int32 → CM → Option ((Unit ⊕ (Int32 ⊕ Nat)) × CM)
  | 0, _, _, _, _ => none
  | n + 1, x1, x2, x3, M =>
    if mI M 39 1 ≤ x3 then
      some (.inl (), M)
    else
      ob (K_J2_get 113 x3 M) fun r2 M1 =>
      if r2 = 0 ∨ mk M1 r2 = 20 then
      ob (K_J2_get 113 x3 M1) fun r7 M6 =>
      if r7 = 0 ∨ mk M6 r7 = 20 then
      if mk M6 r7 = 20 then
      obS (K_X0_is (mR M6 3801 r7) M6) (fun w16 M12 =>
          some (.inr (.inr w16), M12))
      fun r13 M12 =>
      if mk M12 r2 = 20 then
      nm (msI M12 3805 r2 r13) fun M18 =>
      nm (x3 + 1) fun v19 =>
      KL_X0_fire_4 n x1 x2 v19 M18
      else none
      else none
      else none
      else none
def KL_X0_fire_112 : Nat → Int32 → Int32 → Int32 → Nat → Int32 → CM → Option ((Unit ⊕ (Int32 ⊕ Nat)) × CM)
  | 0, _, _, _, _, _, _ => none
  | n + 1, x1, x2, x3, x4, x5, M =>
    if mk M x4 = 20 then
    if mI M 3803 x4 ≤ x5 then
      some (.inl (), M)
    else
      ob (K_J2_get 112 x5 M) fun r41 M40 =>
      if r41 = 0 ∨ mk M40 r41 = 21 then
      obS (K_X0_act r41 M40) (fun w49 M45 =>
          some (.inr (.inr w49), M45))
      fun r46 M45 =>
      nm (x5 + 1) fun v50 =>
      KL_X0_fire_112 n x1 x2 x3 x4 v50 M45
      else none
    else none
def KL_X0_fire_52 : Nat → Int32 → Int32 → Int32 → CM → Option ((Int32 ⊕ (Int32 ⊕ Nat)) × CM)
  | 0, _, _, _, _ => none
  | n + 1, x1, x2, x3, M =>
    if mI M 39 1 ≤ x3 then
      some (.inl x2, M)
    else
      ob (K_J2_get 113 x3 M) fun r25 M24 =>
      if r25 = 0 ∨ mk M24 r25 = 20 then
      if mk M24 r25 = 20 then
      if mI M24 3805 r25 = 0 then
        nm (x3 + 1) fun v31 =>
        KL_X0_fire_52 n x1 x2 v31 M24
      else
        if mk M24 r25 = 20 then
        if mI M24 3804 r25 = 0 then
          if x1 = 0 then
            nm (msI M24 97 1 ((mI M24 97 1) + 1)) fun M36 =>
            if mk M36 r25 = 20 then
            nm (mI M36 3802 r25) fun v38 =>
            obS (KL_X0_fire_112 FU x1 1 x3 r25 v38 M36) (fun r57 M53 => some (.inr r57, M53)) fun q52 M53 =>
            nm (x3 + 1) fun v55 =>
            KL_X0_fire_52 n x1 1 v55 M53
            else none
          else
            nm (x3 + 1) fun v35 =>
            KL_X0_fire_52 n x1 x2 v35 M24
        else
          nm (x3 + 1) fun v34 =>
          KL_X0_fire_52 n x1 x2 v34 M24
        else none
      else none
      else none
def KL_X0_fire_152 : Nat → Int32 → Int32 → CM → Option (Unit × CM)
  | 0, _, _, _ => none
  | n + 1, x2, x3, M =>
    if mI M 39 1 ≤ x3 then
      some ((), M)
    else
      ob (K_J2_get 113 x3 M) fun r67 M66 =>
      if r67 = 0 ∨ mk M66 r67 = 20 then
      ob (K_J2_get 113 x3 M66) fun r72 M71 =>
      if r72 = 0 ∨ mk M71 r72 = 20 then
      if mk M71 r72 = 20 then
      if mk M71 r67 = 20 then
      nm (msI M71 3804 r67 (mI M71 3805 r72)) fun M79 =>
      nm (x3 + 1) fun v80 =>
      KL_X0_fire_152 n x2 v80 M79
      else none
      else none
      else none
      else none
def K_X0_fire (x1 : Int32) (M : CM) : Option ((Int32 ⊕ Nat) × CM) :=
  obS (KL_X0_fire_4 FU x1 0 0 M) (fun r89 M22 => some (r89, M22)) fun q21 M22 =>
  obS (KL_X0_fire_52 FU x1 0 0 M22) (fun r87 M63 => some (r87, M63)) fun q62 M63 =>
  ob (KL_X0_fire_152 FU q62 0 M63) fun q82 M83 =>
  some (.inl q62, M83)
def KL_X0_event_22 : Nat → Int32 → Int32 → CM → Option (Unit × CM)
  | 0, _, _, _ => none
  | n + 1, x1, x2, M =>
    if mI M 41 1 ≤ x2 then
      some ((), M)
    else
      if inb x2 24 then
      if mk M (mX M 137 (ix x2)) = 18 then
      if mI M 3400 (mX M 137 (ix x2)) = 29 then
        if inb x2 24 then
        ob (K_X0_isDue (mX M 137 (ix x2)) M) fun r16 M15 =>
        if inb x2 24 then
        nm (mwA M15 148 (ix x2) (nZ r16)) fun M20 =>
        nm (x2 + 1) fun v21 =>
        KL_X0_event_22 n x1 v21 M20
        else none
        else none
      else
        if inb x2 24 then
        if inb x2 24 then
        nm (mwA M 148 (ix x2) (nZ (mA M 148 (ix x2)))) fun M12 =>
        nm (x2 + 1) fun v13 =>
        KL_X0_event_22 n x1 v13 M12
        else none
        else none
      else none
      else none
def KL_X0_event_84 : Nat → Int32 → Int32 → Int32 → CM → Option ((Unit ⊕ (Unit ⊕ Nat)) × CM)
  | 0, _, _, _, _ => none
  | n + 1, x1, x2, x3, M =>
    if x3 = 0 then
      some (.inl (), M)
    else
      if x2 = 20 then
        ob (K_X0_wrong 60 0 M) fun r51 M50 =>
        if mk M50 r51 = 7 then
        some (.inr (.inr r51), M50)
        else none
      else
        nm (x2 + 1) fun v28 =>
        obS (K_X0_solveBlocks M) (fun w33 M29 =>
            some (.inr (.inr w33), M29))
        fun r30 M29 =>
        obS (K_X0_findRelations M29) (fun w38 M34 =>
            some (.inr (.inr w38), M34))
        fun r35 M34 =>
        obS (K_X0_fire x1 M34) (fun w43 M39 =>
            some (.inr (.inr w43), M39))
        fun r40 M39 =>
        nm (r35 ||| r40) fun v44 =>
        if v44 = 0 then
          KL_X0_event_84 n x1 v28 v44 M39
        else
          ob (K_X0_preOfDiscretes M39) fun r46 M45 =>
          KL_X0_event_84 n x1 v28 v44 M45
def KL_X0_event_135 : Nat → Int32 → CM → Option (Unit × CM)
  | 0, _, _ => none
  | n + 1, x4, M =>
    if mI M 41 1 ≤ x4 then
      some ((), M)
    else
      if inb x4 24 then
      if inb x4 24 then
      if mk M (mX M 137 (ix x4)) = 18 then
      if mI M 3400 (mX M 137 (ix x4)) = 29 then
        if inb x4 24 then
        nm (mwA M 148 (ix x4) (nZ ((mA M 148 (ix x4)) &&& 0))) fun M65 =>
        nm (x4 + 1) fun v66 =>
        KL_X0_event_135 n v66 M65
        else none
      else
        if inb x4 24 then
        nm (mwA M 148 (ix x4) (nZ ((mA M 148 (ix x4)) &&& 1))) fun M68 =>
        nm (x4 + 1) fun v69 =>
        KL_X0_event_135 n v69 M68
        else none
      else none
      else none
      else none
def KL_X0_event_187 : Nat → Int32 → CM → Option ((Unit ⊕ (Unit ⊕ Nat)) × CM)
  | 0, _, _ => none
  | n + 1, x4, M =>
    if mI M 39 1 ≤ x4 then
      some (.inl (), M)
    else
      ob (K_J2_get 113 x4 M) fun r81 M80 =>
      if r81 = 0 ∨ mk M80 r81 = 20 then
      ob (K_J2_get 113 x4 M80) fun r86 M85 =>
      if r86 = 0 ∨ mk M85 r86 = 20 then
      if mk M85 r86 = 20 then
      obS (K_X0_is (mR M85 3801 r86) M85) (fun w95 M91 =>
          some (.inr (.inr w95), M91))
      fun r92 M91 =>
      if mk M91 r81 = 20 then
      nm (msI M91 3804 r81 r92) fun M97 =>
      nm (x4 + 1) fun v98 =>
      KL_X0_event_187 n v98 M97
      else none
      else none
      else none
      else none
def K_X0_event (x1 : Int32) (M : CM) : Option ((Unit ⊕ Nat) × CM) :=
  if mk M 124 = 50 ∧ mk M 125 = 50 ∧ ¬ (0 : Int32) < 0 ∧ ¬ (0 : Int32) < 0 ∧ ¬ (180 : Int32) < 0 ∧ ix 0 + ix 180 ≤ ml M 124 ∧ ix 0 + ix 180 ≤ ml M 125 then
  nm (mcA M 124 (ix 0) 125 (ix 0) (ix 180)) fun M2 =>
  ob (K_X0_preOfDiscretes M2) fun r4 M3 =>
  ob (KL_X0_event_22 FU x1 0 M3) fun q24 M25 =>
  nm (msI M25 86 1 1) fun M27 =>
  obS (KL_X0_event_84 FU x1 0 1 M27) (fun r108 M58 => some (r108, M58)) fun q57 M58 =>
  ob (KL_X0_event_135 FU 0 M58) fun q72 M73 =>
  obS (K_X0_solveBlocks M73) (fun w79 M75 =>
      some (.inr w79, M75))
  fun r76 M75 =>
  obS (KL_X0_event_187 FU 0 M75) (fun r105 M101 => some (r105, M101)) fun q100 M101 =>
  nm (msI M101 96 1 ((mI M101 96 1) + 1)) fun M103 =>
  some (.inl (), M103)
  else none
def K_X0_fails (x1 : Nat) (M : CM) : Option (Int32 × CM) :=
  if mk M x1 = 7 then
  nm (msI M 4 1 (mI M 1200 x1)) fun M2 =>
  if mk M2 x1 = 7 then
  nm (msI M2 5 1 (mI M2 1201 x1)) fun M4 =>
  some ((-5), M4)
  else none
  else none
def K_X0_fault (x1 : Int32) (M : CM) : Option (Int32 × CM) :=
  if x1 = 0 then
    some (mI M 4 1, M)
  else
    if x1 = 1 then
      some (mI M 5 1, M)
    else
      some ((-1), M)
def KL_X0_feedFour_3 : Nat → Int32 → Int32 → CM → Option (Unit × CM)
  | 0, _, _, _ => none
  | n + 1, x1, x2, M =>
    if x2 < 0 then
      some ((), M)
    else
      if inb (mI M 1 1) 2000 then
      nm (mwA M 2 (ix (mI M 1 1)) (nB (nB (x1 >>> (x2 &&& 31))))) fun M2 =>
      nm (msI M2 1 1 ((mI M2 1 1) + 1)) fun M3 =>
      nm (x2 + (-8)) fun v4 =>
      KL_X0_feedFour_3 n x1 v4 M3
      else none
def K_X0_feedFour (x1 : Int32) (M : CM) : Option (Unit × CM) :=
  ob (KL_X0_feedFour_3 FU x1 24 M) fun q6 M7 =>
  some ((), M7)
def K_X0_feed (x1 : Int32) (x2 : Int32) (x3 : Int32) (x4 : Int32) (x5 : Int32) (M : CM) : Option (Int32 × CM) :=
  if (mI M 1 1) + 20 ≤ 2000 then
    ob (K_X0_feedFour x1 M) fun r2 M1 =>
    ob (K_X0_feedFour x2 M1) fun r6 M5 =>
    ob (K_X0_feedFour x3 M5) fun r10 M9 =>
    ob (K_X0_feedFour x4 M9) fun r14 M13 =>
    ob (K_X0_feedFour x5 M13) fun r18 M17 =>
    some (mI M17 1 1, M17)
  else
    some ((-3), M)
def KB_X0_howIn (cf_X0_howIn : Nat → Int32 → CM → Option (Int32 × CM)) (x1 : Nat) (x2 : Int32) (M : CM) : Option (Int32 × CM) :=
  if x1 = 0 then
    some (0, M)
  else
    if mk M x1 = 18 then
    ob (cf_X0_howIn (mR M 3405 x1) x2 M) fun r3 M2 =>
    if mk M2 x1 = 18 then
    ob (cf_X0_howIn (mR M2 3406 x1) x2 M2) fun r8 M7 =>
    if mk M7 x1 = 18 then
    ob (cf_X0_howIn (mR M7 3407 x1) x2 M7) fun r13 M12 =>
    if mk M12 x1 = 18 then
    if mI M12 3400 x1 = 3 then
      if r3 ≤ r8 then
        some (r8, M12)
      else
        some (r3, M12)
    else
    if mI M12 3400 x1 = 4 then
      if r3 ≤ r8 then
        some (r8, M12)
      else
        some (r3, M12)
    else
    if mI M12 3400 x1 = 5 then
      if r3 ≤ 0 then
        some (r3 + r8, M12)
      else
        if r8 ≤ 0 then
          some (r3 + r8, M12)
        else
          some (2, M12)
    else
    if mI M12 3400 x1 = 6 then
      if r8 ≤ 0 then
        some (r3, M12)
      else
        some (2, M12)
    else
    if mI M12 3400 x1 = 7 then
      if r3 ≤ r8 then
        some (r8, M12)
      else
        some (r3, M12)
    else
    if mI M12 3400 x1 = 8 then
      if (r3 + r8) + r13 ≤ 0 then
        some (0, M12)
      else
        some (2, M12)
    else
    if mI M12 3400 x1 = 9 then
      if (r3 + r8) + r13 ≤ 0 then
        some (0, M12)
      else
        some (2, M12)
    else
    if mI M12 3400 x1 = 10 then
      if (r3 + r8) + r13 ≤ 0 then
        some (0, M12)
      else
        some (2, M12)
    else
    if mI M12 3400 x1 = 11 then
      if (r3 + r8) + r13 ≤ 0 then
        some (0, M12)
      else
        some (2, M12)
    else
    if mI M12 3400 x1 = 12 then
      if (r3 + r8) + r13 ≤ 0 then
        some (0, M12)
      else
        some (2, M12)
    else
    if mI M12 3400 x1 = 13 then
      if (r3 + r8) + r13 ≤ 0 then
        some (0, M12)
      else
        some (2, M12)
    else
    if mI M12 3400 x1 = 14 then
      if r3 ≤ 0 then
        if r8 ≤ r13 then
          some (r13, M12)
        else
          some (r8, M12)
      else
        some (2, M12)
    else
    if mI M12 3400 x1 = 15 then
      if (r3 + r8) + r13 ≤ 0 then
        some (0, M12)
      else
        some (2, M12)
    else
    if mI M12 3400 x1 = 16 then
      if (r3 + r8) + r13 ≤ 0 then
        some (0, M12)
      else
        some (2, M12)
    else
    if mI M12 3400 x1 = 17 then
      if mk M12 x1 = 18 then
      if mI M12 3401 x1 = x2 then
        some (1, M12)
      else
        some (0, M12)
      else none
    else
    if (r3 + r8) + r13 ≤ 0 then
      some (0, M12)
    else
      some (2, M12)
    else none
    else none
    else none
    else none
def KG_X0_howIn : Nat → (Nat → Int32 → CM → Option (Int32 × CM))
  | 0 => (fun _ _ _ => none)
  | d + 1 => (KB_X0_howIn (KG_X0_howIn d))
def K_X0_howIn : Nat → Int32 → CM → Option (Int32 × CM) := (KG_X0_howIn 300)
def KL_X0_fill_9 : Nat → Int32 → Int32 → Int32 → CM → Option (Unit × CM)
  | 0, _, _, _, _ => none
  | n + 1, x1, x2, x3, M =>
    if mI M 65 1 ≤ x3 then
      some ((), M)
    else
      if inb x3 180 then
      if mA M 131 (ix x3) = x1 then
        if inb x2 180 then
        nm (mwA M 142 (ix x2) x3) fun M6 =>
        nm (x2 + 1) fun v7 =>
        nm (x3 + 1) fun v8 =>
        KL_X0_fill_9 n x1 v7 v8 M6
        else none
      else
        nm (x3 + 1) fun v4 =>
        KL_X0_fill_9 n x1 x2 v4 M
      else none
def KL_X0_fill_52 : Nat → Int32 → Int32 → Int32 → CM → Option (Int32 × CM)
  | 0, _, _, _, _ => none
  | n + 1, x1, x2, x3, M =>
    if mI M 57 1 ≤ x3 then
      some (x2, M)
    else
      if inb x3 180 then
      if 2 ≤ mA M 123 (ix x3) then
        nm (x3 + 1) fun v17 =>
        KL_X0_fill_52 n x1 x2 v17 M
      else
        if inb x3 180 then
        if inb (mA M 122 (ix x3)) 180 then
        if mA M 131 (ix (mA M 122 (ix x3))) = x1 then
          if inb x2 180 then
          nm (mwA M 143 (ix x2) x3) fun M22 =>
          nm (x2 + 1) fun v23 =>
          nm (x3 + 1) fun v24 =>
          KL_X0_fill_52 n x1 v23 v24 M22
          else none
        else
          nm (x3 + 1) fun v20 =>
          KL_X0_fill_52 n x1 x2 v20 M
        else none
        else none
      else none
def K_X0_fill (x1 : Int32) (M : CM) : Option (Unit × CM) :=
  if inb x1 181 then
  nm (mA M 141 (ix x1)) fun v2 =>
  ob (KL_X0_fill_9 FU x1 v2 0 M) fun q11 M12 =>
  if inb x1 181 then
  nm (mA M12 141 (ix x1)) fun v15 =>
  ob (KL_X0_fill_52 FU x1 v15 0 M12) fun q28 M29 =>
  if inb x1 181 then
  if inb (mA M29 141 (ix x1)) 180 then
  nm (mA M29 142 (ix (mA M29 141 (ix x1)))) fun v33 =>
  if inb x1 181 then
  if inb (mA M29 141 (ix x1)) 180 then
  nm (mA M29 143 (ix (mA M29 141 (ix x1)))) fun v36 =>
  if inb x1 181 then
  if q28 - (mA M29 141 (ix x1)) = 1 then
    if inb v33 180 then
    ob (K_X0_howIn (mX M29 126 (ix v33)) v36 M29) fun r42 M41 =>
    if 2 ≤ r42 then
      if inb x1 180 then
      nm (mwA M41 144 (ix x1) (nZ 0)) fun M46 =>
      some ((), M46)
      else none
    else
      if inb v33 180 then
      ob (K_X0_howIn (mX M41 127 (ix v33)) v36 M41) fun r49 M48 =>
      if 2 ≤ r49 then
        if inb x1 180 then
        nm (mwA M48 144 (ix x1) (nZ 0)) fun M53 =>
        some ((), M53)
        else none
      else
        if inb x1 180 then
        nm (mwA M48 144 (ix x1) (nZ 1)) fun M55 =>
        some ((), M55)
        else none
      else none
    else none
  else
    if inb x1 180 then
    nm (mwA M29 144 (ix x1) (nZ 0)) fun M39 =>
    some ((), M39)
    else none
  else none
  else none
  else none
  else none
  else none
  else none
  else none
def KL_X1_length_17 : Nat → Int32 → Int64 → CM → Option (Int32 × CM)
  | 0, _, _, _ => none
  | n + 1, x2, x3, M =>
    if lg_cmp x3 0 = 0 then
      some (x2, M)
    else
      nm (x2 + 1) fun v7 =>
      nm (((x3).toUInt64 >>> (((8 : Int32)).toInt64.toUInt64 &&& Int64.toUInt64 63)).toInt64) fun v8 =>
      KL_X1_length_17 n v7 v8 M
def K_X1_length (x1 : Int32) (M : CM) : Option (Int32 × CM) :=
  ob (K_J2_size 5 M) fun r2 M1 =>
  if mk M1 (mR M 201 4) = 53 ∧ inb (x1 - r2) (ml M1 (mR M 201 4)) then
  nm (mL M1 (mR M 201 4) (ix (x1 - r2))) fun v6 =>
  ob (KL_X1_length_17 FU 0 v6 M1) fun q10 M11 =>
  some (q10, M11)
  else none
def K_X0_stepLength (x1 : Int32) (x2 : Int32) (M : CM) : Option (Int32 × CM) :=
  ob (K_X1_length x1 M) fun r2 M1 =>
  if x2 ≤ 0 then
    some (r2 + 0, M1)
  else
    some (r2 + 3, M1)
def KL_X0_nameLength_48 : Nat → Int32 → Nat → CM → Option (Int32 × CM)
  | 0, _, _, _ => none
  | n + 1, x2, x3, M =>
    if mk M x3 = 14 then
    if mR M 2601 x3 = 0 then
      some (x2, M)
    else
      if mk M x3 = 14 then
      if mk M x3 = 14 then
      ob (K_X0_stepLength (mI M 2603 x3) (mI M 2604 x3) M) fun r28 M27 =>
      nm (x2 + (r28 + 1)) fun v31 =>
      if mk M27 x3 = 14 then
      nm (mR M27 2601 x3) fun v33 =>
      KL_X0_nameLength_48 n v31 v33 M27
      else none
      else none
      else none
    else none
def K_X0_nameLength (x1 : Int32) (M : CM) : Option (Int32 × CM) :=
  ob (K_J2_get 98 x1 M) fun r2 M1 =>
  if r2 = 0 ∨ mk M1 r2 = 17 then
  if mk M1 r2 = 17 then
  ob (K_J2_get 98 x1 M1) fun r8 M7 =>
  if r8 = 0 ∨ mk M7 r8 = 17 then
  if mk M7 r8 = 17 then
  ob (K_X0_stepLength (mI M1 3201 r2) (mI M7 3202 r8) M7) fun r14 M13 =>
  ob (K_J2_get 98 x1 M13) fun r18 M17 =>
  if r18 = 0 ∨ mk M17 r18 = 17 then
  if mk M17 r18 = 17 then
  nm (mR M17 3200 r18) fun v23 =>
  ob (KL_X0_nameLength_48 FU r14 v23 M17) fun q35 M36 =>
  some (q35, M36)
  else none
  else none
  else none
  else none
  else none
  else none
def K_X1_letter (x1 : Int32) (x2 : Int32) (M : CM) : Option (Int32 × CM) :=
  ob (K_J2_size 5 M) fun r2 M1 =>
  if mk M1 (mR M 201 4) = 53 ∧ inb (x1 - r2) (ml M1 (mR M 201 4)) then
  ob (K_X1_length x1 M1) fun r7 M6 =>
  some (((((mL M1 (mR M 201 4) (ix (x1 - r2))).toUInt64 >>> ((8 * ((r7 - 1) - x2)).toInt64.toUInt64 &&& Int64.toUInt64 63)).toInt64).toInt32) &&& 255, M6)
  else none
def KL_X0_stepBefore_75 : Nat → Int32 → Int32 → Int32 → CM → Option ((Unit ⊕ Int32) × CM)
  | 0, _, _, _, _ => none
  | n + 1, x1, x4, x5, M =>
    if x4 < 0 then
      some (.inl (), M)
    else
      ob (K_X1_length x1 M) fun r7 M6 =>
      if r7 ≤ x5 then
        some (.inl (), M6)
      else
        if inb (x4 + x5) 2000 then
        ob (K_X1_letter x1 x5 M6) fun r12 M11 =>
        if mA M6 2 (ix (x4 + x5)) = r12 then
          nm (x5 + 1) fun v15 =>
          KL_X0_stepBefore_75 n x1 x4 v15 M11
        else
          some (.inr (-1), M11)
        else none
def KJ_X0_stepBefore_59 (x1 : Int32) (x4 : Int32) (M : CM) : Option (Int32 × CM) :=
  ob (K_X1_length x1 M) fun r2 M1 =>
  nm (x4 - r2) fun v5 =>
  obS (KL_X0_stepBefore_75 FU x1 v5 0 M1) (fun r23 M20 => some (r23, M20)) fun q19 M20 =>
  some (v5, M20)
def K_X0_stepBefore (x1 : Int32) (x2 : Int32) (x3 : Int32) (M : CM) : Option (Int32 × CM) :=
  if x2 ≤ 0 then
    KJ_X0_stepBefore_59 x1 x3 M
  else
    nm (x3 + (-3)) fun v24 =>
    if v24 < 0 then
      some ((-1), M)
    else
      if inb v24 2000 then
      if mA M 2 (ix v24) = 91 then
        if inb (v24 + 1) 2000 then
        if mA M 2 (ix (v24 + 1)) = 48 + x2 then
          if inb (v24 + 2) 2000 then
          if mA M 2 (ix (v24 + 2)) = 93 then
            KJ_X0_stepBefore_59 x1 v24 M
          else
            some ((-1), M)
          else none
        else
          some ((-1), M)
        else none
      else
        some ((-1), M)
      else none
def KL_X0_isName_52 : Nat → Int32 → Nat → CM → Option (Int32 × CM)
  | 0, _, _, _ => none
  | n + 1, x3, x4, M =>
    if mk M x4 = 14 then
    if mR M 2601 x4 = 0 then
      some (x3, M)
    else
      if x3 < 0 then
        some (x3, M)
      else
        nm (x3 + (-1)) fun v25 =>
        if v25 < 0 then
          if mk M x4 = 14 then
          nm (mR M 2601 x4) fun v27 =>
          KL_X0_isName_52 n (-1) v27 M
          else none
        else
          if inb v25 2000 then
          if mA M 2 (ix v25) = 46 then
            if mk M x4 = 14 then
            if mk M x4 = 14 then
            ob (K_X0_stepBefore (mI M 2603 x4) (mI M 2604 x4) v25 M) fun r34 M33 =>
            if mk M33 x4 = 14 then
            nm (mR M33 2601 x4) fun v38 =>
            KL_X0_isName_52 n r34 v38 M33
            else none
            else none
            else none
          else
            if mk M x4 = 14 then
            nm (mR M 2601 x4) fun v30 =>
            KL_X0_isName_52 n (-1) v30 M
            else none
          else none
    else none
def K_X0_isName (x1 : Int32) (x2 : Int32) (M : CM) : Option (Int32 × CM) :=
  ob (K_J2_get 98 x1 M) fun r2 M1 =>
  if r2 = 0 ∨ mk M1 r2 = 17 then
  if mk M1 r2 = 17 then
  ob (K_J2_get 98 x1 M1) fun r8 M7 =>
  if r8 = 0 ∨ mk M7 r8 = 17 then
  if mk M7 r8 = 17 then
  ob (K_X0_stepBefore (mI M1 3201 r2) (mI M7 3202 r8) x2 M7) fun r14 M13 =>
  ob (K_J2_get 98 x1 M13) fun r18 M17 =>
  if r18 = 0 ∨ mk M17 r18 = 17 then
  if mk M17 r18 = 17 then
  nm (mR M17 3200 r18) fun v23 =>
  ob (KL_X0_isName_52 FU r14 v23 M17) fun q43 M44 =>
  if q43 = 0 then
    some (1, M44)
  else
    some (0, M44)
  else none
  else none
  else none
  else none
  else none
  else none
def KL_X0_find_22 : Nat → Int32 → Int32 → CM → Option ((Unit ⊕ Int32) × CM)
  | 0, _, _, _ => none
  | n + 1, x1, x2, M =>
    if mI M 15 1 ≤ x2 then
      some (.inl (), M)
    else
      ob (K_X0_nameLength x2 M) fun r5 M4 =>
      if r5 = x1 then
        ob (K_X0_isName x2 x1 M4) fun r10 M9 =>
        if r10 = 0 then
          nm (x2 + 1) fun v13 =>
          KL_X0_find_22 n x1 v13 M9
        else
          some (.inr x2, M9)
      else
        nm (x2 + 1) fun v8 =>
        KL_X0_find_22 n x1 v8 M4
def K_X0_find (M : CM) : Option (Int32 × CM) :=
  nm (mI M 1 1) fun v1 =>
  nm (msI M 1 1 0) fun M2 =>
  if mI M2 30 1 = 0 then
    some ((-4), M2)
  else
    obS (KL_X0_find_22 FU v1 0 M2) (fun r21 M18 => some (r21, M18)) fun q17 M18 =>
    some ((-2), M18)
def KL_X0_findOuters_36 : Nat → Int32 → Nat → Nat → Nat → CM → Option (Nat × CM)
  | 0, _, _, _, _, _ => none
  | n + 1, x1, x2, x3, x4, M =>
    if x3 = 0 then
      some (x4, M)
    else
      if x4 = 0 then
        if mk M x2 = 16 then
        if mk M x3 = 14 then
        ob (K_X14_member x3 (mI M 3000 x2) M) fun r16 M15 =>
        if r16 = 0 then
          if mk M15 x3 = 14 then
          nm (mR M15 2601 x3) fun v20 =>
          KL_X0_findOuters_36 n x1 x2 v20 0 M15
          else none
        else
          if mk M15 r16 = 16 then
          if mk M15 (mR M15 3003 r16) = 11 then
          ob (K_X11_is (mR M15 3003 r16) 8 M15) fun r24 M23 =>
          if r24 = 0 then
            if mk M23 x3 = 14 then
            nm (mR M23 2601 x3) fun v28 =>
            KL_X0_findOuters_36 n x1 x2 v28 0 M23
            else none
          else
            if mk M23 x3 = 14 then
            nm (mR M23 2601 x3) fun v30 =>
            KL_X0_findOuters_36 n x1 x2 v30 r16 M23
            else none
          else none
          else none
        else none
        else none
      else
        some (x4, M)
def KL_X0_findOuters_129 : Nat → Int32 → Nat → Nat → Int32 → Int32 → CM → Option (Int32 × CM)
  | 0, _, _, _, _, _, _ => none
  | n + 1, x1, x2, x4, x5, x6, M =>
    if 3 ≤ x6 then
      some (x5, M)
    else
      if mk M x4 = 16 then
      if mk M (mR M 3003 x4) = 11 then
      if mk M (mR M 2005 (mR M 3003 x4)) = 50 ∧ inb x6 (ml M (mR M 2005 (mR M 3003 x4))) then
      if mk M x2 = 16 then
      if mk M (mR M 3003 x2) = 11 then
      if mk M (mR M 2005 (mR M 3003 x2)) = 50 ∧ inb x6 (ml M (mR M 2005 (mR M 3003 x2))) then
      if mA M (mR M 2005 (mR M 3003 x4)) (ix x6) = mA M (mR M 2005 (mR M 3003 x2)) (ix x6) then
        nm (x5 &&& 1) fun v50 =>
        nm (x6 + 1) fun v51 =>
        KL_X0_findOuters_129 n x1 x2 x4 v50 v51 M
      else
        nm (x5 &&& 0) fun v48 =>
        nm (x6 + 1) fun v49 =>
        KL_X0_findOuters_129 n x1 x2 x4 v48 v49 M
      else none
      else none
      else none
      else none
      else none
      else none
def KJ_X0_findOuters_124_2 (rec : Int32 → CM → Option ((Unit ⊕ (Unit ⊕ Nat)) × CM)) (x1 : Int32) (x2 : Nat) (x4 : Nat) (y0 : Int32) (M : CM) : Option ((Unit ⊕ (Unit ⊕ Nat)) × CM) :=
  ob (KL_X0_findOuters_129 FU x1 x2 x4 y0 0 M) fun q54 M55 =>
  if q54 = 0 then
    ob (K_X0_wrong 22 0 M55) fun r62 M61 =>
    if mk M61 r62 = 7 then
    some (.inr (.inr r62), M61)
    else none
  else
    if mk M55 x2 = 16 then
    nm (msR M55 3007 x2 x4) fun M59 =>
    nm (x1 + 1) fun v60 =>
    rec v60 M59
    else none
def KJ_X0_findOuters_89_2 (rec : Int32 → CM → Option ((Unit ⊕ (Unit ⊕ Nat)) × CM)) (x1 : Int32) (x2 : Nat) (x4 : Nat) (M : CM) : Option ((Unit ⊕ (Unit ⊕ Nat)) × CM) :=
  if x4 = 0 then
    ob (K_X0_wrong 25 0 M) fun r70 M69 =>
    if mk M69 r70 = 7 then
    some (.inr (.inr r70), M69)
    else none
  else
    if mk M x4 = 16 then
    if mk M (mR M 3003 x4) = 11 then
    if mk M x2 = 16 then
    if mk M (mR M 3003 x2) = 11 then
    if mI M 2002 (mR M 3003 x4) = mI M 2002 (mR M 3003 x2) then
      KJ_X0_findOuters_124_2 rec x1 x2 x4 1 M
    else
      KJ_X0_findOuters_124_2 rec x1 x2 x4 0 M
    else none
    else none
    else none
    else none
def KL_X0_findOuters_2 : Nat → Int32 → CM → Option ((Unit ⊕ (Unit ⊕ Nat)) × CM)
  | 0, _, _ => none
  | n + 1, x1, M =>
    ob (K_J2_size 102 M) fun r2 M1 =>
    if r2 ≤ x1 then
      some (.inl (), M1)
    else
      ob (K_J2_get 102 x1 M1) fun r6 M5 =>
      if r6 = 0 ∨ mk M5 r6 = 16 then
      if mk M5 r6 = 16 then
      if mk M5 (mR M5 3006 r6) = 14 then
      nm (mR M5 2601 (mR M5 3006 r6)) fun v12 =>
      ob (KL_X0_findOuters_36 FU x1 r6 v12 0 M5) fun q35 M36 =>
      KJ_X0_findOuters_89_2 (KL_X0_findOuters_2 n) x1 r6 q35 M36
      else none
      else none
      else none
def K_X0_findOuters (M : CM) : Option ((Unit ⊕ Nat) × CM) :=
  obS (KL_X0_findOuters_2 FU 0 M) (fun r81 M78 => some (r81, M78)) fun q77 M78 =>
  some (.inl (), M78)
def K_X0_fit (x1 : Nat) (x2 : Nat) (M : CM) : Option (Int32 × CM) :=
  nm (msI M 45 1 1) fun M1 =>
  ob (K_X0_alike x1 x2 0 M1) fun r3 M2 =>
  some (mI M2 45 1, M2)
def KL_X0_fitsVar_15 : Nat → Int32 → Int32 → Int32 → CM → Option (Unit × CM)
  | 0, _, _, _, _ => none
  | n + 1, x2, x3, x4, M =>
    if 3 ≤ x4 then
      some ((), M)
    else
      if x3 = 0 then
        if inb x4 700 then
        ob (K_J2_get 98 x2 M) fun r9 M8 =>
        if r9 = 0 ∨ mk M8 r9 = 17 then
        if mk M8 r9 = 17 then
        if mk M8 (mR M8 3204 r9) = 50 ∧ inb x4 (ml M8 (mR M8 3204 r9)) then
        if mA M 116 (ix x4) = mA M8 (mR M8 3204 r9) (ix x4) then
          nm (msI M8 45 1 ((mI M 45 1) &&& 1)) fun M17 =>
          nm (x4 + 1) fun v18 =>
          KL_X0_fitsVar_15 n x2 x3 v18 M17
        else
          nm (msI M8 45 1 ((mI M 45 1) &&& 0)) fun M15 =>
          nm (x4 + 1) fun v16 =>
          KL_X0_fitsVar_15 n x2 x3 v16 M15
        else none
        else none
        else none
        else none
      else
        some ((), M)
def K_X0_fitsVar (x1 : Nat) (x2 : Int32) (M : CM) : Option (Int32 × CM) :=
  nm (msI M 45 1 1) fun M1 =>
  ob (K_X0_unit x1 0 M1) fun r3 M2 =>
  ob (KL_X0_fitsVar_15 FU x2 r3 0 M2) fun q22 M23 =>
  some (mI M23 45 1, M23)
def KL_X1_isText_13 : Nat → Nat → Nat → Int32 → Int32 → Int32 → CM → Option ((Unit ⊕ Int32) × CM)
  | 0, _, _, _, _, _, _ => none
  | n + 1, x0, x1, x2, x3, x4, M =>
    if x3 ≤ x4 then
      some (.inl (), M)
    else
      if isStr M x0 ∧ inb x4 (sLen M x0) then
      if mk M x1 = 51 ∧ inb (x2 + x4) (ml M x1) then
      if sChr M x0 (ix x4) = mA M x1 (ix (x2 + x4)) then
        nm (x4 + 1) fun v4 =>
        KL_X1_isText_13 n x0 x1 x2 x3 v4 M
      else
        some (.inr 0, M)
      else none
      else none
def K_X1_isText (x0 : Nat) (x1 : Nat) (x2 : Int32) (x3 : Int32) (M : CM) : Option (Int32 × CM) :=
  if isStr M x0 then
  if nI (sLen M x0) = x3 then
    obS (KL_X1_isText_13 FU x0 x1 x2 x3 0 M) (fun r11 M8 => some (r11, M8)) fun q7 M8 =>
    some (1, M8)
  else
    some (0, M)
  else none
def KJ_X1_added_40 (x1 : Int64) (M : CM) : Option (Int32 × CM) :=
  if mk M (mR M 201 4) = 53 ∧ inb (mI M 202 4) (ml M (mR M 201 4)) then
  nm (mwL M (mR M 201 4) (ix (mI M 202 4)) x1) fun M3 =>
  nm (msI M3 202 4 ((mI M3 202 4) + 1)) fun M4 =>
  ob (K_J2_size 5 M4) fun r6 M5 =>
  some ((r6 + (mI M5 202 4)) - 1, M5)
  else none
def K_X1_added (x1 : Int64) (M : CM) : Option (Int32 × CM) :=
  if 50 ≤ mk M (mR M 201 4) then
  if mI M 202 4 = nI (ml M (mR M 201 4)) then
    if ¬ 2 * (mI M 202 4) < 0 ∧ mn M ≤ 601024 ∧ ms M + ix (2 * (mI M 202 4)) ≤ 7293034 then
    nm (mn M) fun v10 =>
    nm (mnew M 53 (ix (2 * (mI M 202 4))) (ix (2 * (mI M 202 4)))) fun M11 =>
    if mk M11 (mR M11 201 4) = 53 ∧ mk M11 v10 = 53 ∧ ¬ (0 : Int32) < 0 ∧ ¬ (0 : Int32) < 0 ∧ ¬ mI M11 202 4 < 0 ∧ ix 0 + ix (mI M11 202 4) ≤ ml M11 (mR M11 201 4) ∧ ix 0 + ix (mI M11 202 4) ≤ ml M11 v10 then
    nm (mcL M11 (mR M11 201 4) (ix 0) v10 (ix 0) (ix (mI M11 202 4))) fun M13 =>
    nm (msR M13 201 4 v10) fun M14 =>
    KJ_X1_added_40 x1 M14
    else none
    else none
  else
    KJ_X1_added_40 x1 M
  else none
def KL_X1_of_3 : Nat → Nat → Int32 → Int32 → Int32 → Int32 → CM → Option ((Unit ⊕ Int32) × CM)
  | 0, _, _, _, _, _, _ => none
  | n + 1, x1, x2, x3, x4, x5, M =>
    ob (K_J2_size 5 M) fun r2 M1 =>
    if r2 ≤ x5 then
      some (.inl (), M1)
    else
      ob (K_J2_get 5 x5 M1) fun r6 M5 =>
      if r6 = 0 ∨ mk M5 r6 = 24 then
      ob (K_X1_isText r6 x1 x2 x3 M5) fun r11 M10 =>
      if r11 = 0 then
        nm (x5 + 1) fun v14 =>
        KL_X1_of_3 n x1 x2 x3 x4 v14 M10
      else
        some (.inr x5, M10)
      else none
def KL_X1_of_59 : Nat → Nat → Int32 → Int32 → Int32 → Int64 → Int32 → CM → Option (Int64 × CM)
  | 0, _, _, _, _, _, _, _ => none
  | n + 1, x1, x2, x3, x4, x5, x7, M =>
    if x3 ≤ x7 then
      some (x5, M)
    else
      if mk M x1 = 51 ∧ inb (x2 + x7) (ml M x1) then
      nm ((x5 <<< (((8 : Int32)).toInt64 &&& 63)) ||| (((mA M x1 (ix (x2 + x7))) &&& 255).toInt64)) fun v21 =>
      nm (x7 + 1) fun v22 =>
      KL_X1_of_59 n x1 x2 x3 x4 v21 v22 M
      else none
def KL_X1_of_93 : Nat → Int32 → Int32 → Int64 → Int32 → CM → Option ((Unit ⊕ Int32) × CM)
  | 0, _, _, _, _, _ => none
  | n + 1, x3, x4, x5, x7, M =>
    if mI M 202 4 ≤ x7 then
      some (.inl (), M)
    else
      if mk M (mR M 201 4) = 53 ∧ inb x7 (ml M (mR M 201 4)) then
      if lg_cmp (mL M (mR M 201 4) (ix x7)) x5 = 0 then
        ob (K_J2_size 5 M) fun r30 M29 =>
        ob (K_X1_length (r30 + x7) M29) fun r34 M33 =>
        if r34 = x3 then
          ob (K_J2_size 5 M33) fun r39 M38 =>
          some (.inr (r39 + x7), M38)
        else
          nm (x7 + 1) fun v37 =>
          KL_X1_of_93 n x3 x4 x5 v37 M33
      else
        nm (x7 + 1) fun v28 =>
        KL_X1_of_93 n x3 x4 x5 v28 M
      else none
def K_X1_of (x1 : Nat) (x2 : Int32) (x3 : Int32) (x4 : Int32) (M : CM) : Option (Int32 × CM) :=
  obS (KL_X1_of_3 FU x1 x2 x3 x4 0 M) (fun r58 M18 => some (r58, M18)) fun q17 M18 =>
  if x3 ≤ 8 then
    ob (KL_X1_of_59 FU x1 x2 x3 x4 0 0 M18) fun q24 M25 =>
    obS (KL_X1_of_93 FU x3 x4 q24 0 M25) (fun r54 M46 => some (r54, M46)) fun q45 M46 =>
    if x4 = 0 then
      some ((-1), M46)
    else
      ob (K_X1_added q24 M46) fun r49 M48 =>
      some (r49, M48)
  else
    some ((-1), M18)
def KL_X0_workParameters_7 : Nat → Int32 → CM → Option (Unit × CM)
  | 0, _, _ => none
  | n + 1, x1, M =>
    if mI M 15 1 ≤ x1 then
      some ((), M)
    else
      ob (K_J2_get 98 x1 M) fun r3 M2 =>
      if r3 = 0 ∨ mk M2 r3 = 17 then
      if mk M2 r3 = 17 then
      nm (msI M2 3215 r3 0) fun M8 =>
      ob (K_J2_get 98 x1 M8) fun r10 M9 =>
      if r10 = 0 ∨ mk M9 r10 = 17 then
      if mk M9 r10 = 17 then
      nm (msI M9 3216 r10 0) fun M15 =>
      nm (x1 + 1) fun v16 =>
      KL_X0_workParameters_7 n v16 M15
      else none
      else none
      else none
      else none
def KL_X0_workParameters_53 : Nat → Int32 → CM → Option ((Unit ⊕ (Unit ⊕ Nat)) × CM)
  | 0, _, _ => none
  | n + 1, x1, M =>
    if mI M 15 1 ≤ x1 then
      some (.inl (), M)
    else
      ob (K_J2_get 98 x1 M) fun r22 M21 =>
      if r22 = 0 ∨ mk M21 r22 = 17 then
      if mk M21 r22 = 17 then
      if mI M21 3203 r22 = 1 then
        obS (K_X0_parameter x1 M21) (fun w32 M28 =>
            some (.inr (.inr w32), M28))
        fun r29 M28 =>
        nm (x1 + 1) fun v33 =>
        KL_X0_workParameters_53 n v33 M28
      else
        nm (x1 + 1) fun v27 =>
        KL_X0_workParameters_53 n v27 M21
      else none
      else none
def K_X0_workParameters (M : CM) : Option ((Unit ⊕ Nat) × CM) :=
  nm (msI M 33 1 0) fun M1 =>
  ob (KL_X0_workParameters_7 FU 0 M1) fun q18 M19 =>
  obS (KL_X0_workParameters_53 FU 0 M19) (fun r40 M37 => some (r40, M37)) fun q36 M37 =>
  some (.inl (), M37)
def KJ_X0_number_40 (cf_X0_number : Nat → CM → Option ((Unit ⊕ Nat) × CM)) (x1 : Nat) (M : CM) : Option ((Unit ⊕ Nat) × CM) :=
  if mk M x1 = 18 then
  obS (cf_X0_number (mR M 3406 x1) M) (fun w26 M22 =>
      some (.inr w26, M22))
  fun r23 M22 =>
  if mI M22 41 1 = 24 then
    ob (K_X0_wrong 24 0 M22) fun r33 M32 =>
    if mk M32 r33 = 7 then
    some (.inr r33, M32)
    else none
  else
    if mk M22 x1 = 18 then
    nm (msI M22 3403 x1 (mI M22 41 1)) fun M28 =>
    if inb (mI M28 41 1) 24 ∧ (x1 = 0 ∨ mk M28 x1 = 18) then
    nm (mwX M28 114 (ix (mI M28 41 1)) x1) fun M30 =>
    nm (msI M30 41 1 ((mI M30 41 1) + 1)) fun M31 =>
    some (.inl (), M31)
    else none
    else none
  else none
def KJ_X0_number_31 (cf_X0_number : Nat → CM → Option ((Unit ⊕ Nat) × CM)) (x1 : Nat) (M : CM) : Option ((Unit ⊕ Nat) × CM) :=
  if mk M x1 = 18 then
  if mI M 3400 x1 = 29 then
    KJ_X0_number_40 cf_X0_number x1 M
  else
    if mk M x1 = 18 then
    obS (cf_X0_number (mR M 3406 x1) M) (fun w14 M10 =>
        some (.inr w14, M10))
    fun r11 M10 =>
    if mk M10 x1 = 18 then
    obS (cf_X0_number (mR M10 3407 x1) M10) (fun w20 M16 =>
        some (.inr w20, M16))
    fun r17 M16 =>
    some (.inl (), M16)
    else none
    else none
  else none
def KB_X0_number (cf_X0_number : Nat → CM → Option ((Unit ⊕ Nat) × CM)) (x1 : Nat) (M : CM) : Option ((Unit ⊕ Nat) × CM) :=
  if x1 = 0 then
    some (.inl (), M)
  else
    if mk M x1 = 18 then
    obS (cf_X0_number (mR M 3405 x1) M) (fun w6 M2 =>
        some (.inr w6, M2))
    fun r3 M2 =>
    if mk M2 x1 = 18 then
    if mI M2 3400 x1 < 20 then
      KJ_X0_number_31 cf_X0_number x1 M2
    else
      if mk M2 x1 = 18 then
      if mI M2 3400 x1 ≤ 25 then
        KJ_X0_number_40 cf_X0_number x1 M2
      else
        KJ_X0_number_31 cf_X0_number x1 M2
      else none
    else none
    else none
def KG_X0_number : Nat → (Nat → CM → Option ((Unit ⊕ Nat) × CM))
  | 0 => (fun _ _ => none)
  | d + 1 => (KB_X0_number (KG_X0_number d))
def K_X0_number : Nat → CM → Option ((Unit ⊕ Nat) × CM) := (KG_X0_number 300)
def KL_X0_numberRelations_2 : Nat → Int32 → CM → Option ((Unit ⊕ (Unit ⊕ Nat)) × CM)
  | 0, _, _ => none
  | n + 1, x1, M =>
    if mI M 35 1 ≤ x1 then
      some (.inl (), M)
    else
      ob (K_J2_get 111 x1 M) fun r2 M1 =>
      if r2 = 0 ∨ mk M1 r2 = 19 then
      if mk M1 r2 = 19 then
      obS (K_X0_number (mR M1 3600 r2) M1) (fun w11 M7 =>
          some (.inr (.inr w11), M7))
      fun r8 M7 =>
      ob (K_J2_get 111 x1 M7) fun r13 M12 =>
      if r13 = 0 ∨ mk M12 r13 = 19 then
      if mk M12 r13 = 19 then
      obS (K_X0_number (mR M12 3601 r13) M12) (fun w22 M18 =>
          some (.inr (.inr w22), M18))
      fun r19 M18 =>
      nm (x1 + 1) fun v23 =>
      KL_X0_numberRelations_2 n v23 M18
      else none
      else none
      else none
      else none
def KL_X0_numberRelations_87 : Nat → Int32 → Nat → Int32 → CM → Option ((Unit ⊕ (Unit ⊕ Nat)) × CM)
  | 0, _, _, _, _ => none
  | n + 1, x1, x2, x3, M =>
    if mk M x2 = 20 then
    if mI M 3803 x2 ≤ x3 then
      some (.inl (), M)
    else
      ob (K_J2_get 112 x3 M) fun r43 M42 =>
      if r43 = 0 ∨ mk M42 r43 = 21 then
      if mk M42 r43 = 21 then
      obS (K_X0_number (mR M42 4002 r43) M42) (fun w52 M48 =>
          some (.inr (.inr w52), M48))
      fun r49 M48 =>
      nm (x3 + 1) fun v53 =>
      KL_X0_numberRelations_87 n x1 x2 v53 M48
      else none
      else none
    else none
def KL_X0_numberRelations_54 : Nat → Int32 → CM → Option ((Unit ⊕ (Unit ⊕ Nat)) × CM)
  | 0, _, _ => none
  | n + 1, x1, M =>
    if mI M 39 1 ≤ x1 then
      some (.inl (), M)
    else
      ob (K_J2_get 113 x1 M) fun r29 M28 =>
      if r29 = 0 ∨ mk M28 r29 = 20 then
      if mk M28 r29 = 20 then
      obS (K_X0_number (mR M28 3800 r29) M28) (fun w38 M34 =>
          some (.inr (.inr w38), M34))
      fun r35 M34 =>
      if mk M34 r29 = 20 then
      nm (mI M34 3802 r29) fun v40 =>
      obS (KL_X0_numberRelations_87 FU x1 r29 v40 M34) (fun r60 M56 => some (.inr r60, M56)) fun q55 M56 =>
      nm (x1 + 1) fun v58 =>
      KL_X0_numberRelations_54 n v58 M56
      else none
      else none
      else none
def K_X0_numberRelations (M : CM) : Option ((Unit ⊕ Nat) × CM) :=
  obS (KL_X0_numberRelations_2 FU 0 M) (fun r68 M26 => some (r68, M26)) fun q25 M26 =>
  obS (KL_X0_numberRelations_54 FU 0 M26) (fun r66 M63 => some (r66, M63)) fun q62 M63 =>
  some (.inl (), M63)
def KJ_X0_hasDer_21 (cf_X0_hasDer : Nat → Int32 → CM → Option (Int32 × CM)) (x1 : Nat) (x2 : Int32) (M : CM) : Option (Int32 × CM) :=
  if mk M x1 = 18 then
  ob (cf_X0_hasDer (mR M 3405 x1) x2 M) fun r4 M3 =>
  if r4 = 0 then
    if mk M3 x1 = 18 then
    ob (cf_X0_hasDer (mR M3 3406 x1) x2 M3) fun r9 M8 =>
    if r9 = 0 then
      if mk M8 x1 = 18 then
      ob (cf_X0_hasDer (mR M8 3407 x1) x2 M8) fun r14 M13 =>
      if r14 = 0 then
        some (0, M13)
      else
        some (1, M13)
      else none
    else
      some (1, M8)
    else none
  else
    some (1, M3)
  else none
def KB_X0_hasDer (cf_X0_hasDer : Nat → Int32 → CM → Option (Int32 × CM)) (x1 : Nat) (x2 : Int32) (M : CM) : Option (Int32 × CM) :=
  if x1 = 0 then
    some (0, M)
  else
    if mk M x1 = 18 then
    if mI M 3400 x1 = 15 then
      if mk M x1 = 18 then
      if mI M 3401 x1 = x2 then
        some (1, M)
      else
        KJ_X0_hasDer_21 cf_X0_hasDer x1 x2 M
      else none
    else
      KJ_X0_hasDer_21 cf_X0_hasDer x1 x2 M
    else none
def KG_X0_hasDer : Nat → (Nat → Int32 → CM → Option (Int32 × CM))
  | 0 => (fun _ _ _ => none)
  | d + 1 => (KB_X0_hasDer (KG_X0_hasDer d))
def K_X0_hasDer : Nat → Int32 → CM → Option (Int32 × CM) := (KG_X0_hasDer 300)
def KL_X0_isDerived_2 : Nat → Int32 → Int32 → CM → Option ((Unit ⊕ Int32) × CM)
  | 0, _, _, _ => none
  | n + 1, x1, x2, M =>
    if mI M 35 1 ≤ x2 then
      some (.inl (), M)
    else
      ob (K_J2_get 111 x2 M) fun r2 M1 =>
      if r2 = 0 ∨ mk M1 r2 = 19 then
      if mk M1 r2 = 19 then
      ob (K_X0_hasDer (mR M1 3600 r2) x1 M1) fun r8 M7 =>
      if r8 = 0 then
        ob (K_J2_get 111 x2 M7) fun r12 M11 =>
        if r12 = 0 ∨ mk M11 r12 = 19 then
        if mk M11 r12 = 19 then
        ob (K_X0_hasDer (mR M11 3601 r12) x1 M11) fun r18 M17 =>
        if r18 = 0 then
          nm (x2 + 1) fun v21 =>
          KL_X0_isDerived_2 n x1 v21 M17
        else
          some (.inr 1, M17)
        else none
        else none
      else
        some (.inr 1, M7)
      else none
      else none
def K_X0_isDerived (x1 : Int32) (M : CM) : Option (Int32 × CM) :=
  obS (KL_X0_isDerived_2 FU x1 0 M) (fun r29 M26 => some (r29, M26)) fun q25 M26 =>
  some (0, M26)
def KL_X0_lookAtDiscretes_2 : Nat → Int32 → CM → Option ((Unit ⊕ (Unit ⊕ Nat)) × CM)
  | 0, _, _ => none
  | n + 1, x1, M =>
    if mI M 37 1 ≤ x1 then
      some (.inl (), M)
    else
      ob (K_J2_get 112 x1 M) fun r2 M1 =>
      if r2 = 0 ∨ mk M1 r2 = 21 then
      if mk M1 r2 = 21 then
      if mI M1 4000 r2 = 0 then
        nm (x1 + 1) fun v8 =>
        KL_X0_lookAtDiscretes_2 n v8 M1
      else
        if mk M1 r2 = 21 then
        ob (K_X0_isDerived (mI M1 4001 r2) M1) fun r11 M10 =>
        if r11 = 0 then
          ob (K_X0_wrong 30 0 M10) fun r16 M15 =>
          if mk M15 r16 = 7 then
          some (.inr (.inr r16), M15)
          else none
        else
          nm (x1 + 1) fun v14 =>
          KL_X0_lookAtDiscretes_2 n v14 M10
        else none
      else none
      else none
def KL_X0_lookAtDiscretes_55 : Nat → Int32 → CM → Option ((Unit ⊕ (Unit ⊕ Nat)) × CM)
  | 0, _, _ => none
  | n + 1, x1, M =>
    if mI M 15 1 ≤ x1 then
      some (.inl (), M)
    else
      ob (K_J2_get 98 x1 M) fun r27 M26 =>
      if r27 = 0 ∨ mk M26 r27 = 17 then
      if mk M26 r27 = 17 then
      if mI M26 3203 r27 = 2 then
        if mk M26 r27 = 17 then
        if mR M26 3206 r27 = 0 then
          ob (K_X0_isDone x1 M26) fun r40 M39 =>
          if r40 = 0 then
            ob (K_X0_wrong 30 0 M39) fun r45 M44 =>
            if mk M44 r45 = 7 then
            some (.inr (.inr r45), M44)
            else none
          else
            nm (x1 + 1) fun v43 =>
            KL_X0_lookAtDiscretes_55 n v43 M39
        else
          ob (K_X0_wrong 30 0 M26) fun r35 M34 =>
          if mk M34 r35 = 7 then
          some (.inr (.inr r35), M34)
          else none
        else none
      else
        nm (x1 + 1) fun v32 =>
        KL_X0_lookAtDiscretes_55 n v32 M26
      else none
      else none
def K_X0_lookAtDiscretes (M : CM) : Option ((Unit ⊕ Nat) × CM) :=
  obS (KL_X0_lookAtDiscretes_2 FU 0 M) (fun r59 M24 => some (r59, M24)) fun q23 M24 =>
  obS (KL_X0_lookAtDiscretes_55 FU 0 M24) (fun r57 M54 => some (r57, M54)) fun q53 M54 =>
  some (.inl (), M54)
def KL_X0_workStarts_2 : Nat → Int32 → CM → Option ((Unit ⊕ (Unit ⊕ Nat)) × CM)
  | 0, _, _ => none
  | n + 1, x1, M =>
    if mI M 15 1 ≤ x1 then
      some (.inl (), M)
    else
      ob (K_J2_get 98 x1 M) fun r2 M1 =>
      if r2 = 0 ∨ mk M1 r2 = 17 then
      if mk M1 r2 = 17 then
      if mR M1 3211 r2 = 0 then
        if mk M1 r2 = 17 then
        nm (msI M1 3212 r2 0) fun M17 =>
        nm (x1 + 1) fun v18 =>
        KL_X0_workStarts_2 n v18 M17
        else none
      else
        if mk M1 r2 = 17 then
        obS (K_X0_fixed (mR M1 3211 r2) M1) (fun w12 M8 =>
            some (.inr (.inr w12), M8))
        fun r9 M8 =>
        if mk M8 r2 = 17 then
        nm (msI M8 3212 r2 r9) fun M14 =>
        nm (x1 + 1) fun v15 =>
        KL_X0_workStarts_2 n v15 M14
        else none
        else none
      else none
      else none
def K_X0_workStarts (M : CM) : Option ((Unit ⊕ Nat) × CM) :=
  obS (KL_X0_workStarts_2 FU 0 M) (fun r25 M22 => some (r25, M22)) fun q21 M22 =>
  some (.inl (), M22)
def KL_X0_flatten_86 : Nat → Nat → Int32 → CM → Option (Unit × CM)
  | 0, _, _, _ => none
  | n + 1, x1, x2, M =>
    if 400 ≤ x2 then
      some ((), M)
    else
      if inb x2 400 then
      nm (mwA M 115 (ix x2) x2) fun M26 =>
      nm (x2 + 1) fun v27 =>
      KL_X0_flatten_86 n x1 v27 M26
      else none
def KL_X0_flatten_128 : Nat → Int32 → CM → Option ((Unit ⊕ (Unit ⊕ Nat)) × CM)
  | 0, _, _ => none
  | n + 1, x2, M =>
    if mI M 15 1 ≤ x2 then
      some (.inl (), M)
    else
      ob (K_J2_get 98 x2 M) fun r48 M47 =>
      if r48 = 0 ∨ mk M47 r48 = 17 then
      if mk M47 r48 = 17 then
      if mI M47 3203 r48 = 1 then
        if mk M47 r48 = 17 then
        if mR M47 3206 r48 = 0 then
          nm (x2 + 1) fun v55 =>
          KL_X0_flatten_128 n v55 M47
        else
          if mk M47 r48 = 17 then
          if mk M47 r48 = 17 then
          obS (K_X0_flatten_2 (mR M47 3206 r48) (mR M47 3207 r48) 1 (-1) M47) (fun w62 M58 =>
              some (.inr (.inr w62), M58))
          fun r59 M58 =>
          if mk M58 r48 = 17 then
          nm (msR M58 3210 r48 r59) fun M64 =>
          nm (x2 + 1) fun v65 =>
          KL_X0_flatten_128 n v65 M64
          else none
          else none
          else none
        else none
      else
        nm (x2 + 1) fun v53 =>
        KL_X0_flatten_128 n v53 M47
      else none
      else none
def KL_X0_flatten_193 : Nat → Int32 → CM → Option ((Unit ⊕ (Unit ⊕ Nat)) × CM)
  | 0, _, _ => none
  | n + 1, x2, M =>
    if mI M 15 1 ≤ x2 then
      some (.inl (), M)
    else
      ob (K_J2_get 98 x2 M) fun r78 M77 =>
      if r78 = 0 ∨ mk M77 r78 = 17 then
      if mk M77 r78 = 17 then
      if mI M77 3203 r78 = 1 then
        nm (x2 + 1) fun v83 =>
        KL_X0_flatten_193 n v83 M77
      else
        if mk M77 r78 = 17 then
        if mR M77 3206 r78 = 0 then
          nm (x2 + 1) fun v85 =>
          KL_X0_flatten_193 n v85 M77
        else
          if mk M77 (mR M77 27 1) = 4 then
          obS (K_X3_make (mR M77 27 1) 1 x2 0 0 0 M77) (fun w91 M87 =>
              some (.inr (.inr w91), M87))
          fun r88 M87 =>
          if mk M87 r78 = 17 then
          if mk M87 r78 = 17 then
          obS (K_X0_flatten_2 (mR M87 3206 r78) (mR M87 3207 r78) 0 (-1) M87) (fun w98 M94 =>
              some (.inr (.inr w98), M94))
          fun r95 M94 =>
          obS (K_X0_equation r88 r95 M94) (fun w103 M99 =>
              some (.inr (.inr w103), M99))
          fun r100 M99 =>
          nm (x2 + 1) fun v104 =>
          KL_X0_flatten_193 n v104 M99
          else none
          else none
          else none
        else none
      else none
      else none
def KL_X0_flatten_298 : Nat → Int32 → CM → Option ((Unit ⊕ (Unit ⊕ Nat)) × CM)
  | 0, _, _ => none
  | n + 1, x2, M =>
    if mI M 15 1 ≤ x2 then
      some (.inl (), M)
    else
      ob (K_J2_get 98 x2 M) fun r137 M136 =>
      if r137 = 0 ∨ mk M136 r137 = 17 then
      if mk M136 r137 = 17 then
      if mR M136 3208 r137 = 0 then
        nm (x2 + 1) fun v142 =>
        KL_X0_flatten_298 n v142 M136
      else
        if mk M136 r137 = 17 then
        if mk M136 r137 = 17 then
        obS (K_X0_flatten_2 (mR M136 3208 r137) (mR M136 3209 r137) 1 (-1) M136) (fun w149 M145 =>
            some (.inr (.inr w149), M145))
        fun r146 M145 =>
        if mk M145 r137 = 17 then
        nm (msR M145 3211 r137 r146) fun M151 =>
        nm (x2 + 1) fun v152 =>
        KL_X0_flatten_298 n v152 M151
        else none
        else none
        else none
      else none
      else none
def K_X0_flatten (x1 : Nat) (M : CM) : Option ((Unit ⊕ Nat) × CM) :=
  nm (msI M 31 1 0) fun M1 =>
  nm (msI M1 32 1 0) fun M2 =>
  nm (msI M2 15 1 0) fun M3 =>
  nm (msI M3 16 1 0) fun M4 =>
  nm (msI M4 17 1 0) fun M5 =>
  nm (msI M5 18 1 0) fun M6 =>
  nm (msI M6 35 1 0) fun M7 =>
  nm (msI M7 37 1 0) fun M8 =>
  nm (msI M8 39 1 0) fun M9 =>
  nm (msI M9 41 1 0) fun M10 =>
  ob (K_J2_clear 102 M10) fun r12 M11 =>
  ob (K_J2_clear 109 M11) fun r16 M15 =>
  nm (msI M15 24 1 0) fun M19 =>
  ob (K_X3_clear 105 M19) fun r21 M20 =>
  nm (msR M20 27 1 105) fun M24 =>
  ob (KL_X0_flatten_86 FU x1 0 M24) fun q29 M30 =>
  obS (K_X0_newInst 0 x1 (-1) 0 M30) (fun w36 M32 =>
      some (.inr w36, M32))
  fun r33 M32 =>
  obS (K_X0_elements r33 x1 0 0 1 M32) (fun w41 M37 =>
      some (.inr w41, M37))
  fun r38 M37 =>
  obS (K_X0_findOuters M37) (fun w46 M42 =>
      some (.inr w46, M42))
  fun r43 M42 =>
  obS (KL_X0_flatten_128 FU 0 M42) (fun r168 M70 => some (r168, M70)) fun q69 M70 =>
  obS (K_X0_workParameters M70) (fun w76 M72 =>
      some (.inr w76, M72))
  fun r73 M72 =>
  obS (KL_X0_flatten_193 FU 0 M72) (fun r166 M109 => some (r166, M109)) fun q108 M109 =>
  ob (K_J2_get 99 0 M109) fun r112 M111 =>
  if r112 = 0 ∨ mk M111 r112 = 14 then
  obS (K_X0_all r112 M111) (fun w120 M116 =>
      some (.inr w120, M116))
  fun r117 M116 =>
  obS (K_X0_connections M116) (fun w125 M121 =>
      some (.inr w125, M121))
  fun r122 M121 =>
  obS (K_X0_numberRelations M121) (fun w130 M126 =>
      some (.inr w130, M126))
  fun r127 M126 =>
  obS (K_X0_lookAtDiscretes M126) (fun w135 M131 =>
      some (.inr w135, M131))
  fun r132 M131 =>
  obS (KL_X0_flatten_298 FU 0 M131) (fun r164 M156 => some (r164, M156)) fun q155 M156 =>
  obS (K_X0_workStarts M156) (fun w162 M158 =>
      some (.inr w162, M158))
  fun r159 M158 =>
  some (.inl (), M158)
  else none
def KJ_X0_flat_62 (y0 : Nat) (M : CM) : Option (Int32 × CM) :=
  if y0 = 0 then
    ob (K_X0_wrong 20 0 M) fun r10 M9 =>
    if mk M9 r10 = 7 then
    if mk M9 r10 = 7 then
    ob (K_X0_wrong (mI M9 1200 r10) 0 M9) fun r16 M15 =>
    ob (K_X0_fails r16 M15) fun r20 M19 =>
    some (r20, M19)
    else none
    else none
  else
    if mk M y0 = 10 then
    if mI M 1801 y0 = 0 then
      obS (K_X0_flatten y0 M) (fun w29 M25 =>
          if mk M25 w29 = 7 then
          ob (K_X0_wrong (mI M25 1200 w29) 0 M25) fun r32 M31 =>
          ob (K_X0_fails r32 M31) fun r36 M35 =>
          some (r36, M35)
          else none)
      fun r26 M25 =>
      nm (msI M25 30 1 1) fun M39 =>
      some (mI M39 15 1, M39)
    else
      ob (K_X0_wrong 20 0 M) fun r41 M40 =>
      if mk M40 r41 = 7 then
      if mk M40 r41 = 7 then
      ob (K_X0_wrong (mI M40 1200 r41) 0 M40) fun r47 M46 =>
      ob (K_X0_fails r47 M46) fun r51 M50 =>
      some (r51, M50)
      else none
      else none
    else none
def KJ_X0_flat_28 (y0 : Int32) (M : CM) : Option (Int32 × CM) :=
  nm (msI M 1 1 0) fun M1 =>
  nm (msI M1 30 1 0) fun M2 =>
  nm (msI M2 46 1 0) fun M3 =>
  nm (msI M3 91 1 0) fun M4 =>
  if 0 ≤ y0 then
    ob (K_X0_model y0 M4) fun r6 M5 =>
    KJ_X0_flat_62 r6 M5
  else
    KJ_X0_flat_62 0 M4
def K_X0_flat (M : CM) : Option (Int32 × CM) :=
  if mI M 1 1 ≤ 0 then
    KJ_X0_flat_28 (-1) M
  else
    ob (K_X1_of 2 0 (mI M 1 1) 0 M) fun r58 M57 =>
    KJ_X0_flat_28 r58 M57
def KL_X1_init_28 : Nat → Nat → Int32 → Int32 → CM → Option (Unit × CM)
  | 0, _, _, _, _ => none
  | n + 1, x0, x1, x2, M =>
    if isStr M 2199023255585 then
    if nI (sLen M 2199023255585) < x2 then
      some ((), M)
    else
      if isStr M 2199023255585 then
      if x2 = nI (sLen M 2199023255585) then
        if mk M x0 = 2 then
        if isStr M 2199023255585 then
        ob (K_J3_substring 2199023255585 x1 x2 M) fun r22 M21 =>
        if mk M21 (mR M 200 x0) = 22 then
        ob (K_J2_add (mR M 200 x0) r22 M21) fun r27 M26 =>
        nm (x2 + 1) fun v30 =>
        nm (x2 + 1) fun v31 =>
        KL_X1_init_28 n x0 v30 v31 M26
        else none
        else none
        else none
      else
        if isStr M 2199023255585 ∧ inb x2 (sLen M 2199023255585) then
        if sChr M 2199023255585 (ix x2) = 32 then
          if mk M x0 = 2 then
          if isStr M 2199023255585 then
          ob (K_J3_substring 2199023255585 x1 x2 M) fun r37 M36 =>
          if mk M36 (mR M 200 x0) = 22 then
          ob (K_J2_add (mR M 200 x0) r37 M36) fun r42 M41 =>
          nm (x2 + 1) fun v45 =>
          nm (x2 + 1) fun v46 =>
          KL_X1_init_28 n x0 v45 v46 M41
          else none
          else none
          else none
        else
          nm (x2 + 1) fun v33 =>
          KL_X1_init_28 n x0 x1 v33 M
        else none
      else none
    else none
def K_X1_init (x0 : Nat) (M : CM) : Option (Unit × CM) :=
  if ¬ x0 = 0 then
  if mn M ≤ 601024 ∧ ms M + 3 ≤ 7293034 then
  nm (mn M) fun v3 =>
  nm (mnew M 22 0 3) fun M4 =>
  if ¬ v3 = 0 then
  ob (K_J2_init v3 M4) fun r7 M6 =>
  if mk M6 x0 = 2 then
  nm (msR M6 200 x0 v3) fun M11 =>
  if ¬ (256 : Int32) < 0 ∧ mn M11 ≤ 601024 ∧ ms M11 + ix 256 ≤ 7293034 then
  nm (mn M11) fun v13 =>
  nm (mnew M11 53 (ix 256) (ix 256)) fun M14 =>
  if mk M14 x0 = 2 then
  nm (msR M14 201 x0 v13) fun M16 =>
  ob (KL_X1_init_28 FU x0 0 0 M16) fun q50 M51 =>
  some ((), M51)
  else none
  else none
  else none
  else none
  else none
  else none
def K_X2_init (x0 : Nat) (x1 : Nat) (M : CM) : Option (Unit × CM) :=
  if mk M x0 = 3 then
  nm (msR M 412 x0 x1) fun M2 =>
  if ¬ x0 = 0 then
  if ¬ (2001 : Int32) < 0 ∧ mn M2 ≤ 601024 ∧ ms M2 + ix 2001 ≤ 7293034 then
  nm (mn M2) fun v5 =>
  nm (mnew M2 50 (ix 2001) (ix 2001)) fun M6 =>
  if mk M6 x0 = 3 then
  nm (msR M6 400 x0 v5) fun M8 =>
  if ¬ (2001 : Int32) < 0 ∧ mn M8 ≤ 601024 ∧ ms M8 + ix 2001 ≤ 7293034 then
  nm (mn M8) fun v10 =>
  nm (mnew M8 50 (ix 2001) (ix 2001)) fun M11 =>
  if mk M11 x0 = 3 then
  nm (msR M11 401 x0 v10) fun M13 =>
  if ¬ (2001 : Int32) < 0 ∧ mn M13 ≤ 601024 ∧ ms M13 + ix 2001 ≤ 7293034 then
  nm (mn M13) fun v15 =>
  nm (mnew M13 52 (ix 2001) (ix 2001)) fun M16 =>
  if mk M16 x0 = 3 then
  nm (msR M16 402 x0 v15) fun M18 =>
  if ¬ (2001 : Int32) < 0 ∧ mn M18 ≤ 601024 ∧ ms M18 + ix 2001 ≤ 7293034 then
  nm (mn M18) fun v20 =>
  nm (mnew M18 50 (ix 2001) (ix 2001)) fun M21 =>
  if mk M21 x0 = 3 then
  nm (msR M21 403 x0 v20) fun M23 =>
  if mn M23 ≤ 601024 ∧ ms M23 + 3 ≤ 7293034 then
  nm (mn M23) fun v25 =>
  nm (mnew M23 22 0 3) fun M26 =>
  if ¬ v25 = 0 then
  ob (K_J2_init v25 M26) fun r29 M28 =>
  if mk M28 x0 = 3 then
  nm (msR M28 407 x0 v25) fun M33 =>
  if mn M33 ≤ 601024 ∧ ms M33 + 3 ≤ 7293034 then
  nm (mn M33) fun v35 =>
  nm (mnew M33 22 0 3) fun M36 =>
  if ¬ v35 = 0 then
  ob (K_J2_init v35 M36) fun r39 M38 =>
  if mk M38 x0 = 3 then
  nm (msR M38 409 x0 v35) fun M43 =>
  if mn M43 ≤ 601024 ∧ ms M43 + 3 ≤ 7293034 then
  nm (mn M43) fun v45 =>
  nm (mnew M43 22 0 3) fun M46 =>
  if ¬ v45 = 0 then
  ob (K_J2_init v45 M46) fun r49 M48 =>
  if mk M48 x0 = 3 then
  nm (msR M48 410 x0 v45) fun M53 =>
  some ((), M53)
  else none
  else none
  else none
  else none
  else none
  else none
  else none
  else none
  else none
  else none
  else none
  else none
  else none
  else none
  else none
  else none
  else none
  else none
  else none
def K_X3_init (x0 : Nat) (x1 : Int32) (x2 : Int32) (x3 : Int32) (M : CM) : Option (Unit × CM) :=
  if ¬ x0 = 0 then
  if mn M ≤ 601024 ∧ ms M + 3 ≤ 7293034 then
  nm (mn M) fun v3 =>
  nm (mnew M 22 0 3) fun M4 =>
  if ¬ v3 = 0 then
  ob (K_J2_init v3 M4) fun r7 M6 =>
  if mk M6 x0 = 4 then
  nm (msR M6 600 x0 v3) fun M11 =>
  if mk M11 x0 = 4 then
  nm (msI M11 601 x0 x1) fun M13 =>
  if mk M13 x0 = 4 then
  nm (msI M13 602 x0 x2) fun M15 =>
  if mk M15 x0 = 4 then
  nm (msI M15 603 x0 x3) fun M17 =>
  some ((), M17)
  else none
  else none
  else none
  else none
  else none
  else none
  else none
def K_X4_init (x0 : Nat) (M : CM) : Option (Unit × CM) :=
  if ¬ x0 = 0 then
  if ¬ (180 : Int32) < 0 ∧ mn M ≤ 601024 ∧ ms M + ix 180 ≤ 7293034 then
  nm (mn M) fun v3 =>
  nm (mnew M 50 (ix 180) (ix 180)) fun M4 =>
  if mk M4 x0 = 5 then
  nm (msR M4 801 x0 v3) fun M6 =>
  if ¬ (180 : Int32) < 0 ∧ mn M6 ≤ 601024 ∧ ms M6 + ix 180 ≤ 7293034 then
  nm (mn M6) fun v8 =>
  nm (mnew M6 50 (ix 180) (ix 180)) fun M9 =>
  if mk M9 x0 = 5 then
  nm (msR M9 802 x0 v8) fun M11 =>
  if ¬ (96 : Int32) < 0 ∧ mn M11 ≤ 601024 ∧ ms M11 + ix 96 ≤ 7293034 then
  nm (mn M11) fun v13 =>
  nm (mnew M11 50 (ix 96) (ix 96)) fun M14 =>
  if mk M14 x0 = 5 then
  nm (msR M14 803 x0 v13) fun M16 =>
  if ¬ (96 : Int32) < 0 ∧ mn M16 ≤ 601024 ∧ ms M16 + ix 96 ≤ 7293034 then
  nm (mn M16) fun v18 =>
  nm (mnew M16 50 (ix 96) (ix 96)) fun M19 =>
  if mk M19 x0 = 5 then
  nm (msR M19 804 x0 v18) fun M21 =>
  if ¬ (24 : Int32) < 0 ∧ mn M21 ≤ 601024 ∧ ms M21 + ix 24 ≤ 7293034 then
  nm (mn M21) fun v23 =>
  nm (mnew M21 52 (ix 24) (ix 24)) fun M24 =>
  if mk M24 x0 = 5 then
  nm (msR M24 805 x0 v23) fun M26 =>
  if ¬ (12 : Int32) < 0 ∧ mn M26 ≤ 601024 ∧ ms M26 + ix 12 ≤ 7293034 then
  nm (mn M26) fun v28 =>
  nm (mnew M26 52 (ix 12) (ix 12)) fun M29 =>
  if mk M29 x0 = 5 then
  nm (msR M29 806 x0 v28) fun M31 =>
  some ((), M31)
  else none
  else none
  else none
  else none
  else none
  else none
  else none
  else none
  else none
  else none
  else none
  else none
  else none
