set_option maxRecDepth 100000
def K_J0_init (x0 : Nat) (M : CM) : Option (Unit × CM) :=
  if ¬ x0 = 0 then
  some ((), M)
  else none
def K_J5_checkIndex (x0 : Int32) (x1 : Int32) (x2 : Nat) (M : CM) : Option (Int32 × CM) :=
  if x0 < 0 then
    none
  else
    if x0 < x1 then
      some (x0, M)
    else
      none
def K_J10_checkIndex (x0 : Int32) (x1 : Int32) (M : CM) : Option (Int32 × CM) :=
  ob (K_J5_checkIndex x0 x1 0 M) fun r2 M1 =>
  some (r2, M1)
def K_J15_init (x0 : Nat) (M : CM) : Option (Unit × CM) :=
  if ¬ x0 = 0 then
  some ((), M)
  else none
def K_J16_init (x0 : Nat) (x1 : Int32) (M : CM) : Option (Unit × CM) :=
  if ¬ x0 = 0 then
  ob (K_J15_init x0 M) fun r3 M2 =>
  if mk M2 x0 = 23 then
  nm (msI M2 4400 x0 x1) fun M7 =>
  some ((), M7)
  else none
  else none
def K_J16_intValue (x0 : Nat) (M : CM) : Option (Int32 × CM) :=
  if isBox M x0 then
  some (iVal M x0, M)
  else none
def K_J16_valueOf (x0 : Int32) (M : CM) : Option (Nat × CM) :=
  if x0 < (-128) then
    if mn M ≤ 601024 ∧ ms M + 1 ≤ 7293034 then
    nm (mn M) fun v2 =>
    nm (mnew M 23 0 1) fun M3 =>
    if ¬ v2 = 0 then
    ob (K_J16_init v2 x0 M3) fun r6 M5 =>
    some (v2, M5)
    else none
    else none
  else
    if 127 < x0 then
      if mn M ≤ 601024 ∧ ms M + 1 ≤ 7293034 then
      nm (mn M) fun v10 =>
      nm (mnew M 23 0 1) fun M11 =>
      if ¬ v10 = 0 then
      ob (K_J16_init v10 x0 M11) fun r14 M13 =>
      some (v10, M13)
      else none
      else none
    else
      if inb (x0 + 128) 256 then
      some (1099511627776 + ix (x0 + 128), M)
      else none
def K_J1_init (x0 : Nat) (M : CM) : Option (Unit × CM) :=
  if ¬ x0 = 0 then
  ob (K_J0_init x0 M) fun r3 M2 =>
  if mk M2 x0 = 22 then
  nm (msI M2 4200 x0 0) fun M7 =>
  some ((), M7)
  else none
  else none
def K_J9_newLength (x0 : Int32) (x1 : Int32) (x2 : Int32) (M : CM) : Option (Int32 × CM) :=
  nm (x0 + (mmax x1 x2)) fun v1 =>
  if (v1 : Int32) ≤ 0 then
    none
  else
    if 2147483639 < v1 then
      none
    else
      some (v1, M)
def K_J7_copyOf_2 (x0 : Nat) (x1 : Int32) (x2 : Nat) (M : CM) : Option (Nat × CM) :=
  if x2 = 4398046511106 then
  if ¬ x1 < 0 ∧ mn M ≤ 601024 ∧ ms M + ix x1 ≤ 7293034 then
  nm (mn M) fun v3 =>
  nm (mnew M 55 (ix x1) (ix x1)) fun M4 =>
  if x0 = 4398046511104 ∨ 50 ≤ mk M4 x0 then
  if okCopy M4 x0 0 v3 0 (mmin (alen M4 x0) x1) then
  nm (mcX M4 x0 (ix 0) v3 (ix 0) (ix (mmin (alen M4 x0) x1))) fun M7 =>
  some (v3, M7)
  else none
  else none
  else none
  else none
def K_J7_copyOf (x0 : Nat) (x1 : Int32) (M : CM) : Option (Nat × CM) :=
  if x0 = 4398046511104 ∨ mk M x0 = 55 then
  ob (K_J7_copyOf_2 x0 x1 4398046511106 M) fun r3 M2 =>
  some (r3, M2)
  else none
def KJ_J2_grow_2_20 (x0 : Nat) (x1 : Int32) (x2 : Int32) (M : CM) : Option (Nat × CM) :=
  ob (K_J9_newLength x2 (x1 - x2) (x2 >>> (1 &&& 31)) M) fun r5 M4 =>
  if mk M4 x0 = 22 then
  ob (K_J7_copyOf (mR M4 4201 x0) r5 M4) fun r10 M9 =>
  if mk M9 x0 = 22 then
  nm (msR M9 4201 x0 r10) fun M14 =>
  some (r10, M14)
  else none
  else none
def K_J2_grow_2 (x0 : Nat) (x1 : Int32) (M : CM) : Option (Nat × CM) :=
  if mk M x0 = 22 then
  if mR M 4201 x0 = 4398046511104 ∨ 50 ≤ mk M (mR M 4201 x0) then
  nm (alen M (mR M 4201 x0)) fun v3 =>
  if 0 < v3 then
    KJ_J2_grow_2_20 x0 x1 v3 M
  else
    if mk M x0 = 22 then
    if (mR M 4201 x0) = 4398046511104 ∨ (mR M 4201 x0) ≤ 1099511627775 then
    if mR M 4201 x0 = 4398046511104 then
      if ¬ mmax 10 x1 < 0 ∧ mn M ≤ 601024 ∧ ms M + ix (mmax 10 x1) ≤ 7293034 then
      nm (mn M) fun v18 =>
      nm (mnew M 55 (ix (mmax 10 x1)) (ix (mmax 10 x1))) fun M19 =>
      if mk M19 x0 = 22 then
      nm (msR M19 4201 x0 v18) fun M21 =>
      some (v18, M21)
      else none
      else none
    else
      KJ_J2_grow_2_20 x0 x1 v3 M
    else none
    else none
  else none
  else none
def K_J2_grow (x0 : Nat) (M : CM) : Option (Nat × CM) :=
  if mk M x0 = 22 then
  if mk M x0 = 22 then
  ob (K_J2_grow_2 x0 ((mI M 4202 x0) + 1) M) fun r4 M3 =>
  some (r4, M3)
  else none
  else none
def K_J2_add_2 (x0 : Nat) (x1 : Nat) (x2 : Nat) (x3 : Int32) (M : CM) : Option (Unit × CM) :=
  if x2 = 4398046511104 ∨ 50 ≤ mk M x2 then
  if x3 = alen M x2 then
    if mk M x0 = 22 then
    ob (K_J2_grow x0 M) fun r8 M7 =>
    if mk M7 r8 = 55 ∧ inb x3 (ml M7 r8) ∧ goodRef M7 x1 then
    nm (mwX M7 r8 (ix x3) x1) fun M12 =>
    if mk M12 x0 = 22 then
    nm (msI M12 4202 x0 (x3 + 1)) fun M14 =>
    some ((), M14)
    else none
    else none
    else none
  else
    if mk M x2 = 55 ∧ inb x3 (ml M x2) ∧ goodRef M x1 then
    nm (mwX M x2 (ix x3) x1) fun M3 =>
    if mk M3 x0 = 22 then
    nm (msI M3 4202 x0 (x3 + 1)) fun M5 =>
    some ((), M5)
    else none
    else none
  else none
def K_J2_add (x0 : Nat) (x1 : Nat) (M : CM) : Option (Int32 × CM) :=
  if mk M x0 = 22 then
  if mk M x0 = 22 then
  nm (msI M 4200 x0 ((mI M 4200 x0) + 1)) fun M3 =>
  if mk M3 x0 = 22 then
  if mk M3 x0 = 22 then
  if mk M3 x0 = 22 then
  ob (K_J2_add_2 x0 x1 (mR M3 4201 x0) (mI M3 4202 x0) M3) fun r8 M7 =>
  some (1, M7)
  else none
  else none
  else none
  else none
  else none
def K_J2_toArray (x0 : Nat) (M : CM) : Option (Nat × CM) :=
  if mk M x0 = 22 then
  if mk M x0 = 22 then
  ob (K_J7_copyOf (mR M 4201 x0) (mI M 4202 x0) M) fun r4 M3 =>
  some (r4, M3)
  else none
  else none
def K_J2_addAll (x0 : Nat) (x1 : Nat) (M : CM) : Option (Int32 × CM) :=
  if mk M x1 = 22 then
  ob (K_J2_toArray x1 M) fun r3 M2 =>
  if mk M2 x0 = 22 then
  if mk M2 x0 = 22 then
  nm (msI M2 4200 x0 ((mI M2 4200 x0) + 1)) fun M8 =>
  if r3 = 4398046511104 ∨ 50 ≤ mk M8 r3 then
  nm (alen M8 r3) fun v10 =>
  if v10 = 0 then
    some (0, M8)
  else
    if mk M8 x0 = 22 then
    nm (mR M8 4201 x0) fun v12 =>
    if mR M8 4201 x0 = 4398046511104 ∨ 50 ≤ mk M8 (mR M8 4201 x0) then
    if mk M8 x0 = 22 then
    nm (mI M8 4202 x0) fun v15 =>
    if v10 ≤ (alen M8 (mR M8 4201 x0)) - (mI M8 4202 x0) then
      if okCopy M8 r3 0 v12 v15 v10 then
      nm (mcX M8 r3 (ix 0) v12 (ix v15) (ix v10)) fun M17 =>
      if mk M17 x0 = 22 then
      nm (msI M17 4202 x0 (v15 + v10)) fun M19 =>
      some (1, M19)
      else none
      else none
    else
      if mk M8 x0 = 22 then
      ob (K_J2_grow_2 x0 (v15 + v10) M8) fun r22 M21 =>
      if okCopy M21 r3 0 r22 v15 v10 then
      nm (mcX M21 r3 (ix 0) r22 (ix v15) (ix v10)) fun M26 =>
      if mk M26 x0 = 22 then
      nm (msI M26 4202 x0 (v15 + v10)) fun M28 =>
      some (1, M28)
      else none
      else none
      else none
    else none
    else none
    else none
  else none
  else none
  else none
  else none
def KL_J2_clear_27 : Nat → Nat → Int32 → Int32 → CM → Option (Unit × CM)
  | 0, _, _, _, _ => none
  | n + 1, x1, x2, x3, M =>
    if x2 ≤ x3 then
      some ((), M)
    else
      if mk M x1 = 55 ∧ inb x3 (ml M x1) ∧ goodRef M 0 then
      nm (mwX M x1 (ix x3) 0) fun M11 =>
      nm (x3 + 1) fun v12 =>
      KL_J2_clear_27 n x1 x2 v12 M11
      else none
def K_J2_clear (x0 : Nat) (M : CM) : Option (Unit × CM) :=
  if mk M x0 = 22 then
  if mk M x0 = 22 then
  nm (msI M 4200 x0 ((mI M 4200 x0) + 1)) fun M3 =>
  if mk M3 x0 = 22 then
  nm (mR M3 4201 x0) fun v5 =>
  if mk M3 x0 = 22 then
  nm (mI M3 4202 x0) fun v7 =>
  if mk M3 x0 = 22 then
  nm (msI M3 4202 x0 0) fun M9 =>
  ob (KL_J2_clear_27 FU v5 v7 0 M9) fun q14 M15 =>
  some ((), M15)
  else none
  else none
  else none
  else none
  else none
def K_J2_elementData (x0 : Nat) (x1 : Int32) (M : CM) : Option (Nat × CM) :=
  if mk M x0 = 22 then
  if mk M (mR M 4201 x0) = 55 ∧ inb x1 (ml M (mR M 4201 x0)) then
  some (mX M (mR M 4201 x0) (ix x1), M)
  else none
  else none
def K_J2_fastRemove (x0 : Nat) (x1 : Nat) (x2 : Int32) (M : CM) : Option (Unit × CM) :=
  if mk M x0 = 22 then
  if mk M x0 = 22 then
  nm (msI M 4200 x0 ((mI M 4200 x0) + 1)) fun M3 =>
  if mk M3 x0 = 22 then
  nm ((mI M3 4202 x0) - 1) fun v5 =>
  if (mI M3 4202 x0) - 1 ≤ x2 then
    if mk M3 x0 = 22 then
    nm (msI M3 4202 x0 v5) fun M7 =>
    if mk M7 x1 = 55 ∧ inb v5 (ml M7 x1) ∧ goodRef M7 0 then
    nm (mwX M7 x1 (ix v5) 0) fun M9 =>
    some ((), M9)
    else none
    else none
  else
    if okCopy M3 x1 (x2 + 1) x1 x2 (v5 - x2) then
    nm (mcX M3 x1 (ix (x2 + 1)) x1 (ix x2) (ix (v5 - x2))) fun M11 =>
    if mk M11 x0 = 22 then
    nm (msI M11 4202 x0 v5) fun M13 =>
    if mk M13 x1 = 55 ∧ inb v5 (ml M13 x1) ∧ goodRef M13 0 then
    nm (mwX M13 x1 (ix v5) 0) fun M15 =>
    some ((), M15)
    else none
    else none
    else none
  else none
  else none
  else none
def K_J2_get (x0 : Nat) (x1 : Int32) (M : CM) : Option (Nat × CM) :=
  if mk M x0 = 22 then
  ob (K_J10_checkIndex x1 (mI M 4202 x0) M) fun r3 M2 =>
  if mk M2 x0 = 22 then
  ob (K_J2_elementData x0 x1 M2) fun r8 M7 =>
  some (r8, M7)
  else none
  else none
def K_J2_init (x0 : Nat) (M : CM) : Option (Unit × CM) :=
  if ¬ x0 = 0 then
  ob (K_J1_init x0 M) fun r3 M2 =>
  if mk M2 x0 = 22 then
  nm (msR M2 4201 x0 4398046511104) fun M7 =>
  some ((), M7)
  else none
  else none
def K_J2_remove (x0 : Nat) (x1 : Int32) (M : CM) : Option (Nat × CM) :=
  if mk M x0 = 22 then
  ob (K_J10_checkIndex x1 (mI M 4202 x0) M) fun r3 M2 =>
  if mk M2 x0 = 22 then
  nm (mR M2 4201 x0) fun v7 =>
  if mk M2 v7 = 55 ∧ inb x1 (ml M2 v7) then
  nm (mX M2 v7 (ix x1)) fun v9 =>
  if mk M2 x0 = 22 then
  ob (K_J2_fastRemove x0 v7 x1 M2) fun r12 M11 =>
  some (v9, M11)
  else none
  else none
  else none
  else none
def K_J2_size (x0 : Nat) (M : CM) : Option (Int32 × CM) :=
  if mk M x0 = 22 then
  some (mI M 4202 x0, M)
  else none
def K_J4_canEncode (x0 : Int32) (M : CM) : Option (Int32 × CM) :=
  if x0 < 0 then
    some (0, M)
  else
    if 255 < x0 then
      some (0, M)
    else
      some (1, M)
def KL_J4_indexOfChar_7 : Nat → Nat → Int32 → Int32 → Int32 → CM → Option ((Unit ⊕ Int32) × CM)
  | 0, _, _, _, _, _ => none
  | n + 1, x0, x3, x4, x5, M =>
    if x3 ≤ x5 then
      some (.inl (), M)
    else
      if isBA M x0 ∧ inb x5 (bLen M x0) then
      if bAt M x0 (ix x5) = x4 then
        some (.inr x5, M)
      else
        nm (x5 + 1) fun v3 =>
        KL_J4_indexOfChar_7 n x0 x3 x4 v3 M
      else none
def K_J4_indexOfChar (x0 : Nat) (x1 : Int32) (x2 : Int32) (x3 : Int32) (M : CM) : Option (Int32 × CM) :=
  nm (nB (x1)) fun v1 =>
  obS (KL_J4_indexOfChar_7 FU x0 x3 v1 x2 M) (fun r10 M7 => some (r10, M7)) fun q6 M7 =>
  some ((-1), M7)
def K_J4_indexOf (x0 : Nat) (x1 : Int32) (x2 : Int32) (x3 : Int32) (M : CM) : Option (Int32 × CM) :=
  ob (K_J4_canEncode x1 M) fun r2 M1 =>
  if r2 = 0 then
    some ((-1), M1)
  else
    nm (mmax x2 0) fun v5 =>
    if isBA M1 x0 then
    nm (mmin x3 (nI (bLen M1 x0))) fun v7 =>
    if v5 < v7 then
      ob (K_J4_indexOfChar x0 x1 v5 v7 M1) fun r9 M8 =>
      some (r9, M8)
    else
      some ((-1), M1)
    else none
def K_J3_indexOf_2 (x0 : Nat) (x1 : Int32) (x2 : Int32) (M : CM) : Option (Int32 × CM) :=
  if isStr M x0 then
  if (1 : Int32) = 0 then
    if isStr M x0 then
    if isStr M x0 then
    none
    else none
    else none
  else
    if isStr M x0 then
    if isStr M x0 then
    ob (K_J4_indexOf (sVal M x0) x1 x2 (nI (sLen M x0)) M) fun r7 M6 =>
    some (r7, M6)
    else none
    else none
  else none
def K_J3_indexOf (x0 : Nat) (x1 : Int32) (M : CM) : Option (Int32 × CM) :=
  if isStr M x0 then
  ob (K_J3_indexOf_2 x0 x1 0 M) fun r3 M2 =>
  some (r3, M2)
  else none
def K_J3_init (x0 : Nat) (x1 : Nat) (x2 : Int32) (M : CM) : Option (Unit × CM) :=
  if ¬ x0 = 0 then
  if mk M x0 = 24 then
  nm (msR M 4600 x0 x1) fun M3 =>
  if mk M3 x0 = 24 then
  if x2 = 0 then
  nm (msI M3 4601 x0 x2) fun M6 =>
  some ((), M6)
  else none
  else none
  else none
  else none
def K_J7_checkLength (x0 : Int32) (x1 : Int32) (M : CM) : Option (Unit × CM) :=
  if x0 ≤ x1 then
    some ((), M)
  else
    none
def K_J7_copyOfRangeByte (x0 : Nat) (x1 : Int32) (x2 : Int32) (M : CM) : Option (Nat × CM) :=
  ob (K_J7_checkLength x1 x2 M) fun r2 M1 =>
  nm (x2 - x1) fun v5 =>
  if ¬ v5 < 0 ∧ mn M1 ≤ 601024 ∧ ms M1 + ix v5 ≤ 7293034 then
  nm (mn M1) fun v7 =>
  nm (mnew M1 51 (ix v5) (ix v5)) fun M8 =>
  if isBA M8 x0 then
  if isOldBA x0 ∧ mk M8 v7 = 51 ∧ ¬ x1 < 0 ∧ ¬ (0 : Int32) < 0 ∧ ¬ mmin ((nI (bLen M8 x0)) - x1) v5 < 0 ∧ ix x1 + ix (mmin ((nI (bLen M8 x0)) - x1) v5) ≤ bLen M8 x0 ∧ ix 0 + ix (mmin ((nI (bLen M8 x0)) - x1) v5) ≤ ml M8 v7 then
  nm (mcS M8 x0 (ix x1) v7 (ix 0) (ix (mmin ((nI (bLen M8 x0)) - x1) v5))) fun M11 =>
  some (v7, M11)
  else none
  else none
  else none
def K_J7_copyOfRange (x0 : Nat) (x1 : Int32) (x2 : Int32) (M : CM) : Option (Nat × CM) :=
  if x1 = 0 then
    if isBA M x0 then
    if x2 = nI (bLen M x0) then
      none
    else
      ob (K_J7_copyOfRangeByte x0 x1 x2 M) fun r7 M6 =>
      some (r7, M6)
    else none
  else
    ob (K_J7_copyOfRangeByte x0 x1 x2 M) fun r2 M1 =>
    some (r2, M1)
def K_J4_newString (x0 : Nat) (x1 : Int32) (x2 : Int32) (M : CM) : Option (Nat × CM) :=
  if x2 = 0 then
    none
  else
    if mn M ≤ 601024 ∧ ms M + 4 ≤ 7293034 then
    nm (mn M) fun v2 =>
    nm (mnew M 24 0 4) fun M3 =>
    ob (K_J7_copyOfRange x0 x1 (x1 + x2) M3) fun r5 M4 =>
    if ¬ v2 = 0 then
    ob (K_J3_init v2 r5 0 M4) fun r10 M9 =>
    some (v2, M9)
    else none
    else none
def KJ_J3_substring_22 (x0 : Nat) (x1 : Int32) (x2 : Int32) (M : CM) : Option (Nat × CM) :=
  nm (x2 - x1) fun v4 =>
  if isStr M x0 then
  if (1 : Int32) = 0 then
    if isStr M x0 then
    none
    else none
  else
    if isStr M x0 then
    ob (K_J4_newString (sVal M x0) x1 v4 M) fun r9 M8 =>
    some (r9, M8)
    else none
  else none
def K_J3_substring (x0 : Nat) (x1 : Int32) (x2 : Int32) (M : CM) : Option (Nat × CM) :=
  if isStr M x0 then
  nm (nI (sLen M x0)) fun v2 =>
  if ¬ x1 < 0 ∧ ¬ x2 < x1 ∧ x2 ≤ v2 then
  if x1 = 0 then
    if x2 = v2 then
      some (x0, M)
    else
      KJ_J3_substring_22 x0 x1 x2 M
  else
    KJ_J3_substring_22 x0 x1 x2 M
  else none
  else none
def K_X0_compare (x0 : Int32) (x1 : Int32) (x2 : Int32) (M : CM) : Option (Int32 × CM) :=
  if x0 = 20 then
    if x2 ≤ x1 then
      some (0, M)
    else
      some (1, M)
  else
  if x0 = 21 then
    if x1 ≤ x2 then
      some (0, M)
    else
      some (1, M)
  else
  if x0 = 22 then
    if x2 < x1 then
      some (0, M)
    else
      some (1, M)
  else
  if x0 = 23 then
    if x1 < x2 then
      some (0, M)
    else
      some (1, M)
  else
  if x0 = 24 then
    if x1 = x2 then
      some (1, M)
    else
      some (0, M)
  else
  if x1 = x2 then
    some (0, M)
  else
    some (1, M)
def K_X7_init (x0 : Nat) (x1 : Int32) (x2 : Int32) (M : CM) : Option (Unit × CM) :=
  if mk M x0 = 7 ∧ mR M 1202 x0 = 0 then
  if mk M x0 = 7 then
  nm (msI M 1200 x0 x1) fun M3 =>
  if mk M3 x0 = 7 then
  nm (msI M3 1201 x0 x2) fun M5 =>
  some ((), M5)
  else none
  else none
  else none
def K_X0_wrong (x0 : Int32) (x1 : Int32) (M : CM) : Option (Nat × CM) :=
  if mn M ≤ 601024 ∧ ms M + 8 ≤ 7293034 then
  nm (mn M) fun v2 =>
  nm (mnew M 7 0 8) fun M3 =>
  if ¬ v2 = 0 then
  ob (K_X7_init v2 x0 x1 M3) fun r6 M5 =>
  some (v2, M5)
  else none
  else none
def KL_X19_root_24 : Nat → Int64 → Int64 → Int64 → CM → Option (Int64 × CM)
  | 0, _, _, _, _ => none
  | n + 1, x1, x3, x5, M =>
    if lg_cmp (x5 - x3) 1 ≤ 0 then
      some (x3, M)
    else
      nm ((x3 + x5) / 2) fun v2 =>
      if 0 < lg_cmp (v2 * v2) x1 then
        KL_X19_root_24 n x1 x3 v2 M
      else
        KL_X19_root_24 n x1 v2 x5 M
def K_X19_root (x0 : Int32) (M : CM) : Option ((Int32 ⊕ Nat) × CM) :=
  if 0 ≤ x0 then
    nm (((x0).toInt64) <<< (((16 : Int32)).toInt64 &&& 63)) fun v1 =>
    ob (KL_X19_root_24 FU v1 0 11863284 M) fun q5 M6 =>
    some (.inl ((q5).toInt32), M6)
  else
    ob (K_X0_wrong 42 0 M) fun r10 M9 =>
    if mk M9 r10 = 7 then
    some (.inr r10, M9)
    else none
def K_X19_sign (x0 : Int32) (M : CM) : Option (Int32 × CM) :=
  if x0 ≤ 0 then
    if 0 ≤ x0 then
      some (0, M)
    else
      some ((-65536), M)
  else
    some (65536, M)
def K_X19_in (x0 : Int64) (M : CM) : Option ((Int32 ⊕ Nat) × CM) :=
  if 0 < lg_cmp x0 2147483647 then
    ob (K_X0_wrong 41 0 M) fun r2 M1 =>
    if mk M1 r2 = 7 then
    some (.inr r2, M1)
    else none
  else
    if 0 ≤ lg_cmp x0 (-2147483647) then
      some (.inl ((x0).toInt32), M)
    else
      ob (K_X0_wrong 41 0 M) fun r7 M6 =>
      if mk M6 r7 = 7 then
      some (.inr r7, M6)
      else none
def K_X0_one (x0 : Int32) (x1 : Int32) (M : CM) : Option ((Int32 ⊕ Nat) × CM) :=
  if x0 = 7 then
    some (.inl (-x1), M)
  else
  if x0 = 8 then
    if 0 ≤ x1 then
      some (.inl x1, M)
    else
      some (.inl (-x1), M)
  else
  if x0 = 9 then
    obS (K_X19_root x1 M) (fun w9 M5 =>
        some (.inr w9, M5))
    fun r6 M5 =>
    some (.inl r6, M5)
  else
  if x0 = 10 then
    if x1 < (-2147418112) then
      obS (K_X19_in (-2147483648) M) (fun w15 M11 =>
          some (.inr w15, M11))
      fun r12 M11 =>
      some (.inl r12, M11)
    else
      some (.inl (x1 &&& (-65536)), M)
  else
  if x0 = 11 then
    if x1 < (-2147418112) then
      obS (K_X19_in (-2147483648) M) (fun w22 M18 =>
          some (.inr w22, M18))
      fun r19 M18 =>
      some (.inl r19, M18)
    else
      some (.inl (x1 &&& (-65536)), M)
  else
  if x0 = 12 then
    ob (K_X19_sign x1 M) fun r26 M25 =>
    some (.inl r26, M25)
  else
  if x1 < (-2147418112) then
    obS (K_X19_in (-2147483648) M) (fun w33 M29 =>
        some (.inr w33, M29))
    fun r30 M29 =>
    some (.inl r30, M29)
  else
    some (.inl (x1 &&& (-65536)), M)
def K_X19_times (x0 : Int32) (x1 : Int32) (M : CM) : Option ((Int32 ⊕ Nat) × CM) :=
  obS (K_X19_in ((((x0).toInt64) * ((x1).toInt64)) >>> (((16 : Int32)).toInt64 &&& 63)) M) (fun w5 M1 =>
      some (.inr w5, M1))
  fun r2 M1 =>
  some (.inl r2, M1)
def K_X19_over (x0 : Int32) (x1 : Int32) (M : CM) : Option ((Int32 ⊕ Nat) × CM) :=
  if x1 = 0 then
    ob (K_X0_wrong 40 0 M) fun r8 M7 =>
    if mk M7 r8 = 7 then
    some (.inr r8, M7)
    else none
  else
    if ¬ ((x1).toInt64) = 0 then
    obS (K_X19_in ((((x0).toInt64) <<< (((16 : Int32)).toInt64 &&& 63)) / ((x1).toInt64)) M) (fun w6 M2 =>
        some (.inr w6, M2))
    fun r3 M2 =>
    some (.inl r3, M2)
    else none
def K_X0_two (x0 : Int32) (x1 : Int32) (x2 : Int32) (M : CM) : Option ((Int32 ⊕ Nat) × CM) :=
  if x0 = 3 then
    obS (K_X19_in (((x1).toInt64) + ((x2).toInt64)) M) (fun w6 M2 =>
        some (.inr w6, M2))
    fun r3 M2 =>
    some (.inl r3, M2)
  else
  if x0 = 4 then
    obS (K_X19_in (((x1).toInt64) - ((x2).toInt64)) M) (fun w12 M8 =>
        some (.inr w12, M8))
    fun r9 M8 =>
    some (.inl r9, M8)
  else
  if x0 = 5 then
    obS (K_X19_times x1 x2 M) (fun w18 M14 =>
        some (.inr w18, M14))
    fun r15 M14 =>
    some (.inl r15, M14)
  else
  if x0 = 6 then
    obS (K_X19_over x1 x2 M) (fun w24 M20 =>
        some (.inr w24, M20))
    fun r21 M20 =>
    some (.inl r21, M20)
  else
  if x0 = 7 then
    if x1 ≤ x2 then
      some (.inl x2, M)
    else
      some (.inl x1, M)
  else
  if x0 = 8 then
    if x1 ≤ x2 then
      some (.inl x2, M)
    else
      some (.inl x1, M)
  else
  if x0 = 9 then
    if x1 ≤ x2 then
      some (.inl x2, M)
    else
      some (.inl x1, M)
  else
  if x0 = 10 then
    if x2 ≤ x1 then
      some (.inl x2, M)
    else
      some (.inl x1, M)
  else
  if x1 ≤ x2 then
    some (.inl x2, M)
  else
    some (.inl x1, M)
def KB_X0_is (cf_X0_is : Nat → CM → Option ((Int32 ⊕ Nat) × CM)) (cf_X0_live : Nat → CM → Option ((Int32 ⊕ Nat) × CM)) (x1 : Nat) (M : CM) : Option ((Int32 ⊕ Nat) × CM) :=
  if mk M x1 = 18 then
  if mI M 3400 x1 = 26 then
    if mk M x1 = 18 then
    obS (cf_X0_is (mR M 3405 x1) M) (fun w8 M4 =>
        some (.inr w8, M4))
    fun r5 M4 =>
    if mk M4 x1 = 18 then
    obS (cf_X0_is (mR M4 3406 x1) M4) (fun w14 M10 =>
        some (.inr w14, M10))
    fun r11 M10 =>
    if r11 = 0 then
      some (.inl 0, M10)
    else
      if r5 = 0 then
        some (.inl 0, M10)
      else
        some (.inl 1, M10)
    else none
    else none
  else
  if mI M 3400 x1 = 27 then
    if mk M x1 = 18 then
    obS (cf_X0_is (mR M 3405 x1) M) (fun w23 M19 =>
        some (.inr w23, M19))
    fun r20 M19 =>
    if mk M19 x1 = 18 then
    obS (cf_X0_is (mR M19 3406 x1) M19) (fun w29 M25 =>
        some (.inr w29, M25))
    fun r26 M25 =>
    if r26 = 0 then
      if r20 = 0 then
        some (.inl 0, M25)
      else
        some (.inl 1, M25)
    else
      some (.inl 1, M25)
    else none
    else none
  else
  if mI M 3400 x1 = 28 then
    if mk M x1 = 18 then
    obS (cf_X0_is (mR M 3405 x1) M) (fun w38 M34 =>
        some (.inr w38, M34))
    fun r35 M34 =>
    if r35 = 0 then
      some (.inl 1, M34)
    else
      some (.inl 0, M34)
    else none
  else
  if mI M 3400 x1 = 29 then
    if mk M x1 = 18 then
    if inb (mI M 3403 x1) 24 then
    some (.inl (mA M 148 (ix (mI M 3403 x1))), M)
    else none
    else none
  else
  if mI M 86 1 = 0 then
    obS (cf_X0_live x1 M) (fun w49 M45 =>
        some (.inr w49, M45))
    fun r46 M45 =>
    some (.inl r46, M45)
  else
    if mk M x1 = 18 then
    if mI M 3403 x1 < 0 then
      obS (cf_X0_live x1 M) (fun w55 M51 =>
          some (.inr w55, M51))
      fun r52 M51 =>
      some (.inl r52, M51)
    else
      if mk M x1 = 18 then
      if inb (mI M 3403 x1) 24 then
      some (.inl (mA M 148 (ix (mI M 3403 x1))), M)
      else none
      else none
    else none
  else none
def KB_X0_live (cf_X0_val : Nat → CM → Option ((Int32 ⊕ Nat) × CM)) (x1 : Nat) (M : CM) : Option ((Int32 ⊕ Nat) × CM) :=
  if mk M x1 = 18 then
  obS (cf_X0_val (mR M 3405 x1) M) (fun w6 M2 =>
      some (.inr w6, M2))
  fun r3 M2 =>
  if mk M2 x1 = 18 then
  if mk M2 x1 = 18 then
  obS (cf_X0_val (mR M2 3406 x1) M2) (fun w13 M9 =>
      some (.inr w13, M9))
  fun r10 M9 =>
  ob (K_X0_compare (mI M2 3400 x1) r3 r10 M9) fun r15 M14 =>
  some (.inl r15, M14)
  else none
  else none
  else none
def KB_X0_val (cf_X0_is : Nat → CM → Option ((Int32 ⊕ Nat) × CM)) (cf_X0_val : Nat → CM → Option ((Int32 ⊕ Nat) × CM)) (x1 : Nat) (M : CM) : Option ((Int32 ⊕ Nat) × CM) :=
  if mk M x1 = 18 then
  if mI M 3400 x1 = 0 then
    if mk M x1 = 18 then
    some (.inl (mI M 3401 x1), M)
    else none
  else
  if mI M 3400 x1 = 1 then
    if mk M x1 = 18 then
    ob (K_J2_get 98 (mI M 3401 x1) M) fun r7 M6 =>
    if r7 = 0 ∨ mk M6 r7 = 17 then
    if mk M6 r7 = 17 then
    some (.inl (mI M6 3213 r7), M6)
    else none
    else none
    else none
  else
  if mI M 3400 x1 = 2 then
    some (.inl (mI M 85 1), M)
  else
  if mI M 3400 x1 = 3 then
    if mk M x1 = 18 then
    obS (cf_X0_val (mR M 3405 x1) M) (fun w19 M15 =>
        some (.inr w19, M15))
    fun r16 M15 =>
    if mk M15 x1 = 18 then
    if mk M15 x1 = 18 then
    obS (cf_X0_val (mR M15 3406 x1) M15) (fun w26 M22 =>
        some (.inr w26, M22))
    fun r23 M22 =>
    obS (K_X0_two (mI M15 3400 x1) r16 r23 M22) (fun w31 M27 =>
        some (.inr w31, M27))
    fun r28 M27 =>
    some (.inl r28, M27)
    else none
    else none
    else none
  else
  if mI M 3400 x1 = 4 then
    if mk M x1 = 18 then
    obS (cf_X0_val (mR M 3405 x1) M) (fun w38 M34 =>
        some (.inr w38, M34))
    fun r35 M34 =>
    if mk M34 x1 = 18 then
    if mk M34 x1 = 18 then
    obS (cf_X0_val (mR M34 3406 x1) M34) (fun w45 M41 =>
        some (.inr w45, M41))
    fun r42 M41 =>
    obS (K_X0_two (mI M34 3400 x1) r35 r42 M41) (fun w50 M46 =>
        some (.inr w50, M46))
    fun r47 M46 =>
    some (.inl r47, M46)
    else none
    else none
    else none
  else
  if mI M 3400 x1 = 5 then
    if mk M x1 = 18 then
    obS (cf_X0_val (mR M 3405 x1) M) (fun w57 M53 =>
        some (.inr w57, M53))
    fun r54 M53 =>
    if mk M53 x1 = 18 then
    if mk M53 x1 = 18 then
    obS (cf_X0_val (mR M53 3406 x1) M53) (fun w64 M60 =>
        some (.inr w64, M60))
    fun r61 M60 =>
    obS (K_X0_two (mI M53 3400 x1) r54 r61 M60) (fun w69 M65 =>
        some (.inr w69, M65))
    fun r66 M65 =>
    some (.inl r66, M65)
    else none
    else none
    else none
  else
  if mI M 3400 x1 = 6 then
    if mk M x1 = 18 then
    obS (cf_X0_val (mR M 3405 x1) M) (fun w76 M72 =>
        some (.inr w76, M72))
    fun r73 M72 =>
    if mk M72 x1 = 18 then
    if mk M72 x1 = 18 then
    obS (cf_X0_val (mR M72 3406 x1) M72) (fun w83 M79 =>
        some (.inr w83, M79))
    fun r80 M79 =>
    obS (K_X0_two (mI M72 3400 x1) r73 r80 M79) (fun w88 M84 =>
        some (.inr w88, M84))
    fun r85 M84 =>
    some (.inl r85, M84)
    else none
    else none
    else none
  else
  if mI M 3400 x1 = 7 then
    if mk M x1 = 18 then
    if mk M x1 = 18 then
    obS (cf_X0_val (mR M 3405 x1) M) (fun w96 M92 =>
        some (.inr w96, M92))
    fun r93 M92 =>
    obS (K_X0_one (mI M 3400 x1) r93 M92) (fun w101 M97 =>
        some (.inr w101, M97))
    fun r98 M97 =>
    some (.inl r98, M97)
    else none
    else none
  else
  if mI M 3400 x1 = 8 then
    if mk M x1 = 18 then
    if mk M x1 = 18 then
    obS (cf_X0_val (mR M 3405 x1) M) (fun w109 M105 =>
        some (.inr w109, M105))
    fun r106 M105 =>
    obS (K_X0_one (mI M 3400 x1) r106 M105) (fun w114 M110 =>
        some (.inr w114, M110))
    fun r111 M110 =>
    some (.inl r111, M110)
    else none
    else none
  else
  if mI M 3400 x1 = 9 then
    if mk M x1 = 18 then
    if mk M x1 = 18 then
    obS (cf_X0_val (mR M 3405 x1) M) (fun w122 M118 =>
        some (.inr w122, M118))
    fun r119 M118 =>
    obS (K_X0_one (mI M 3400 x1) r119 M118) (fun w127 M123 =>
        some (.inr w127, M123))
    fun r124 M123 =>
    some (.inl r124, M123)
    else none
    else none
  else
  if mI M 3400 x1 = 10 then
    if mk M x1 = 18 then
    obS (cf_X0_val (mR M 3405 x1) M) (fun w134 M130 =>
        some (.inr w134, M130))
    fun r131 M130 =>
    if mk M130 x1 = 18 then
    if mk M130 x1 = 18 then
    obS (cf_X0_val (mR M130 3406 x1) M130) (fun w141 M137 =>
        some (.inr w141, M137))
    fun r138 M137 =>
    obS (K_X0_two (mI M130 3400 x1) r131 r138 M137) (fun w146 M142 =>
        some (.inr w146, M142))
    fun r143 M142 =>
    some (.inl r143, M142)
    else none
    else none
    else none
  else
  if mI M 3400 x1 = 11 then
    if mk M x1 = 18 then
    obS (cf_X0_val (mR M 3405 x1) M) (fun w153 M149 =>
        some (.inr w153, M149))
    fun r150 M149 =>
    if mk M149 x1 = 18 then
    if mk M149 x1 = 18 then
    obS (cf_X0_val (mR M149 3406 x1) M149) (fun w160 M156 =>
        some (.inr w160, M156))
    fun r157 M156 =>
    obS (K_X0_two (mI M149 3400 x1) r150 r157 M156) (fun w165 M161 =>
        some (.inr w165, M161))
    fun r162 M161 =>
    some (.inl r162, M161)
    else none
    else none
    else none
  else
  if mI M 3400 x1 = 12 then
    if mk M x1 = 18 then
    if mk M x1 = 18 then
    obS (cf_X0_val (mR M 3405 x1) M) (fun w173 M169 =>
        some (.inr w173, M169))
    fun r170 M169 =>
    obS (K_X0_one (mI M 3400 x1) r170 M169) (fun w178 M174 =>
        some (.inr w178, M174))
    fun r175 M174 =>
    some (.inl r175, M174)
    else none
    else none
  else
  if mI M 3400 x1 = 13 then
    if mk M x1 = 18 then
    if mk M x1 = 18 then
    obS (cf_X0_val (mR M 3405 x1) M) (fun w186 M182 =>
        some (.inr w186, M182))
    fun r183 M182 =>
    obS (K_X0_one (mI M 3400 x1) r183 M182) (fun w191 M187 =>
        some (.inr w191, M187))
    fun r188 M187 =>
    some (.inl r188, M187)
    else none
    else none
  else
  if mI M 3400 x1 = 14 then
    if mk M x1 = 18 then
    obS (cf_X0_is (mR M 3405 x1) M) (fun w198 M194 =>
        some (.inr w198, M194))
    fun r195 M194 =>
    if r195 = 0 then
      if mk M194 x1 = 18 then
      obS (cf_X0_val (mR M194 3407 x1) M194) (fun w204 M200 =>
          some (.inr w204, M200))
      fun r201 M200 =>
      some (.inl r201, M200)
      else none
    else
      if mk M194 x1 = 18 then
      obS (cf_X0_val (mR M194 3406 x1) M194) (fun w210 M206 =>
          some (.inr w210, M206))
      fun r207 M206 =>
      some (.inl r207, M206)
      else none
    else none
  else
  if mI M 3400 x1 = 15 then
    if mk M x1 = 18 then
    obS (cf_X0_val (mR M 3405 x1) M) (fun w218 M214 =>
        some (.inr w218, M214))
    fun r215 M214 =>
    if mk M214 x1 = 18 then
    if mk M214 x1 = 18 then
    obS (cf_X0_val (mR M214 3406 x1) M214) (fun w225 M221 =>
        some (.inr w225, M221))
    fun r222 M221 =>
    obS (K_X0_two (mI M214 3400 x1) r215 r222 M221) (fun w230 M226 =>
        some (.inr w230, M226))
    fun r227 M226 =>
    some (.inl r227, M226)
    else none
    else none
    else none
  else
  if mI M 3400 x1 = 16 then
    if mk M x1 = 18 then
    ob (K_J2_get 98 (mI M 3401 x1) M) fun r234 M233 =>
    if r234 = 0 ∨ mk M233 r234 = 17 then
    if mk M233 r234 = 17 then
    some (.inl (mI M233 3214 r234), M233)
    else none
    else none
    else none
  else
  if mI M 3400 x1 = 17 then
    if mk M x1 = 18 then
    if inb (mI M 3401 x1) 180 then
    some (.inl (mA M 124 (ix (mI M 3401 x1))), M)
    else none
    else none
  else
  if mI M 3400 x1 = 18 then
    if mk M x1 = 18 then
    if inb (mI M 3401 x1) 180 then
    some (.inl (mA M 125 (ix (mI M 3401 x1))), M)
    else none
    else none
  else
  if mI M 3400 x1 = 19 then
    if mk M x1 = 18 then
    if inb (mI M 3401 x1) 180 then
    if 0 ≤ mA M 121 (ix (mI M 3401 x1)) then
      if mk M x1 = 18 then
      if inb (mI M 3401 x1) 180 then
      if inb (mA M 121 (ix (mI M 3401 x1))) 180 then
      some (.inl (mA M 124 (ix (mA M 121 (ix (mI M 3401 x1))))), M)
      else none
      else none
      else none
    else
      some (.inl 0, M)
    else none
    else none
  else
  if mk M x1 = 18 then
  obS (cf_X0_val (mR M 3405 x1) M) (fun w257 M253 =>
      some (.inr w257, M253))
  fun r254 M253 =>
  if mk M253 x1 = 18 then
  if mk M253 x1 = 18 then
  obS (cf_X0_val (mR M253 3406 x1) M253) (fun w264 M260 =>
      some (.inr w264, M260))
  fun r261 M260 =>
  obS (K_X0_two (mI M253 3400 x1) r254 r261 M260) (fun w269 M265 =>
      some (.inr w269, M265))
  fun r266 M265 =>
  some (.inl r266, M265)
  else none
  else none
  else none
  else none
def KG_X0_is : Nat → (Nat → CM → Option ((Int32 ⊕ Nat) × CM)) × (Nat → CM → Option ((Int32 ⊕ Nat) × CM)) × (Nat → CM → Option ((Int32 ⊕ Nat) × CM))
  | 0 => (fun _ _ => none, fun _ _ => none, fun _ _ => none)
  | d + 1 => (KB_X0_is (KG_X0_is d).1 (KG_X0_is d).2.1, KB_X0_live (KG_X0_is d).2.2, KB_X0_val (KG_X0_is d).1 (KG_X0_is d).2.2)
def K_X0_is : Nat → CM → Option ((Int32 ⊕ Nat) × CM) := (KG_X0_is 300).1
def K_X0_live : Nat → CM → Option ((Int32 ⊕ Nat) × CM) := (KG_X0_is 300).2.1
def K_X0_val : Nat → CM → Option ((Int32 ⊕ Nat) × CM) := (KG_X0_is 300).2.2
def K_X0_act (x1 : Nat) (M : CM) : Option ((Unit ⊕ Nat) × CM) :=
  if mk M x1 = 21 then
  obS (K_X0_val (mR M 4003 x1) M) (fun w6 M2 =>
      some (.inr w6, M2))
  fun r3 M2 =>
  if mk M2 x1 = 21 then
  if mI M2 4000 x1 = 0 then
    if mk M2 x1 = 21 then
    ob (K_J2_get 98 (mI M2 4001 x1) M2) fun r17 M16 =>
    if r17 = 0 ∨ mk M16 r17 = 17 then
    if mk M16 r17 = 17 then
    nm (msI M16 3213 r17 r3) fun M22 =>
    some (.inl (), M22)
    else none
    else none
    else none
  else
    if mk M2 x1 = 21 then
    if inb (mI M2 4004 x1) 180 then
    if mA M2 123 (ix (mI M2 4004 x1)) = 2 then
      if mk M2 x1 = 21 then
      if inb (mI M2 4004 x1) 180 then
      nm (mwA M2 124 (ix (mI M2 4004 x1)) r3) fun M13 =>
      some (.inl (), M13)
      else none
      else none
    else
      some (.inl (), M2)
    else none
    else none
  else none
  else none
def K_X15_init (x0 : Nat) (M : CM) : Option (Unit × CM) :=
  if ¬ x0 = 0 then
  some ((), M)
  else none
def KJ_X0_newRow_29 (x1 : Nat) (x2 : Int32) (x3 : Nat) (M : CM) : Option (Nat × CM) :=
  ob (K_J2_get 101 (mI M 18 1) M) fun r6 M5 =>
  if r6 = 0 ∨ mk M5 r6 = 15 then
  if mk M5 r6 = 15 then
  nm (msR M5 2800 r6 x1) fun M11 =>
  if mk M11 r6 = 15 then
  nm (msI M11 2801 r6 x2) fun M13 =>
  if mk M13 r6 = 15 then
  nm (msR M13 2802 r6 x3) fun M15 =>
  if mk M15 r6 = 15 then
  nm (msI M15 2803 r6 0) fun M17 =>
  nm (msI M17 18 1 ((mI M17 18 1) + 1)) fun M18 =>
  some (r6, M18)
  else none
  else none
  else none
  else none
  else none
def K_X0_newRow (x1 : Nat) (x2 : Int32) (x3 : Nat) (M : CM) : Option (Nat × CM) :=
  ob (K_J2_size 101 M) fun r2 M1 =>
  if mI M 18 1 = r2 then
    if mn M1 ≤ 601024 ∧ ms M1 + 4 ≤ 7293034 then
    nm (mn M1) fun v20 =>
    nm (mnew M1 15 0 4) fun M21 =>
    if ¬ v20 = 0 then
    ob (K_X15_init v20 M21) fun r24 M23 =>
    ob (K_J2_add 101 v20 M23) fun r28 M27 =>
    KJ_X0_newRow_29 x1 x2 x3 M27
    else none
    else none
  else
    KJ_X0_newRow_29 x1 x2 x3 M1
def KL_X0_addRows_2 : Nat → Nat → Nat → Int32 → CM → Option (Unit × CM)
  | 0, _, _, _, _ => none
  | n + 1, x1, x2, x3, M =>
    if mk M x1 = 22 then
    ob (K_J2_size x1 M) fun r3 M2 =>
    if r3 ≤ x3 then
      some ((), M2)
    else
      if mk M2 x1 = 22 then
      ob (K_J2_get x1 x3 M2) fun r8 M7 =>
      if r8 = 0 ∨ mk M7 r8 = 12 then
      ob (K_X0_newRow r8 0 x2 M7) fun r13 M12 =>
      nm (x3 + 1) fun v16 =>
      KL_X0_addRows_2 n x1 x2 v16 M12
      else none
      else none
    else none
def K_X0_addRows (x1 : Nat) (x2 : Nat) (M : CM) : Option (Unit × CM) :=
  ob (KL_X0_addRows_2 FU x1 x2 0 M) fun q18 M19 =>
  some ((), M19)
def K_X0_alias (x1 : Int32) (x2 : Int32) (M : CM) : Option (Int32 × CM) :=
  if mI M 46 1 = 0 then
    some ((-4), M)
  else
    if x1 < 0 then
      some ((-2), M)
    else
      if x1 < mI M 15 1 then
        if x2 < 0 then
          some ((-1), M)
        else
          if x2 ≤ 2 then
            ob (K_J2_get 98 x1 M) fun r3 M2 =>
            if r3 = 0 ∨ mk M2 r3 = 17 then
            if 2 ≤ x2 then
              if mk M2 r3 = 17 then
              if mI M2 3203 r3 = 0 then
                if mk M2 r3 = 17 then
                ob (K_J2_get 98 (mI M2 3217 r3) M2) fun r11 M10 =>
                if r11 = 0 ∨ mk M10 r11 = 17 then
                if mk M10 r11 = 17 then
                nm (mI M10 3219 r11) fun v16 =>
                if 0 ≤ v16 then
                  some (v16, M10)
                else
                  some ((-2), M10)
                else none
                else none
                else none
              else
                if (0 : Int32) ≤ (-1) then
                  some ((-1), M2)
                else
                  some ((-2), M2)
              else none
            else
              if x2 = 0 then
                if mk M2 r3 = 17 then
                some (mI M2 3217 r3, M2)
                else none
              else
                if mk M2 r3 = 17 then
                some (mI M2 3218 r3, M2)
                else none
            else none
          else
            some ((-1), M)
      else
        some ((-2), M)
def KB_X0_gather (cf_X0_gather : Nat → Int32 → CM → Option (Int32 × CM)) (x1 : Nat) (x2 : Int32) (M : CM) : Option (Int32 × CM) :=
  if mk M x1 = 18 then
  if mI M 3400 x1 = 0 then
    if mk M x1 = 18 then
    if mI M 3401 x1 = 0 then
      some (1, M)
    else
      some (0, M)
    else none
  else
  if mI M 3400 x1 = 1 then
    if mk M x1 = 18 then
    ob (K_J2_get 98 (mI M 3401 x1) M) fun r8 M7 =>
    if r8 = 0 ∨ mk M7 r8 = 17 then
    if mk M7 r8 = 17 then
    if mI M7 3203 r8 = 0 then
      if mI M7 49 1 = 2 then
        some (0, M7)
      else
        if mk M7 x1 = 18 then
        if inb (mI M7 49 1) 2 then
        nm (mwA M7 117 (ix (mI M7 49 1)) (mI M7 3401 x1)) fun M15 =>
        if inb (mI M15 49 1) 2 then
        nm (mwA M15 118 (ix (mI M15 49 1)) x2) fun M17 =>
        nm (msI M17 49 1 ((mI M17 49 1) + 1)) fun M18 =>
        some (1, M18)
        else none
        else none
        else none
    else
      some (0, M7)
    else none
    else none
    else none
  else
  if mI M 3400 x1 = 2 then
    some (0, M)
  else
  if mI M 3400 x1 = 3 then
    if mk M x1 = 18 then
    ob (cf_X0_gather (mR M 3405 x1) x2 M) fun r25 M24 =>
    if r25 = 0 then
      some (0, M24)
    else
      if mk M24 x1 = 18 then
      if mk M24 x1 = 18 then
      if mI M24 3400 x1 = 3 then
        ob (cf_X0_gather (mR M24 3406 x1) x2 M24) fun r36 M35 =>
        if r36 = 0 then
          some (0, M35)
        else
          some (1, M35)
      else
        ob (cf_X0_gather (mR M24 3406 x1) (-x2) M24) fun r31 M30 =>
        if r31 = 0 then
          some (0, M30)
        else
          some (1, M30)
      else none
      else none
    else none
  else
  if mI M 3400 x1 = 4 then
    if mk M x1 = 18 then
    ob (cf_X0_gather (mR M 3405 x1) x2 M) fun r45 M44 =>
    if r45 = 0 then
      some (0, M44)
    else
      if mk M44 x1 = 18 then
      if mk M44 x1 = 18 then
      if mI M44 3400 x1 = 3 then
        ob (cf_X0_gather (mR M44 3406 x1) x2 M44) fun r56 M55 =>
        if r56 = 0 then
          some (0, M55)
        else
          some (1, M55)
      else
        ob (cf_X0_gather (mR M44 3406 x1) (-x2) M44) fun r51 M50 =>
        if r51 = 0 then
          some (0, M50)
        else
          some (1, M50)
      else none
      else none
    else none
  else
  if mI M 3400 x1 = 5 then
    some (0, M)
  else
  if mI M 3400 x1 = 6 then
    some (0, M)
  else
  if mI M 3400 x1 = 7 then
    if mk M x1 = 18 then
    ob (cf_X0_gather (mR M 3405 x1) (-x2) M) fun r67 M66 =>
    some (r67, M66)
    else none
  else
  some (0, M)
  else none
def KG_X0_gather : Nat → (Nat → Int32 → CM → Option (Int32 × CM))
  | 0 => (fun _ _ _ => none)
  | d + 1 => (KB_X0_gather (KG_X0_gather d))
def K_X0_gather : Nat → Int32 → CM → Option (Int32 × CM) := (KG_X0_gather 300)
def K_X0_isAlias (x1 : Nat) (M : CM) : Option (Int32 × CM) :=
  nm (msI M 49 1 0) fun M1 =>
  if mk M1 x1 = 19 then
  ob (K_X0_gather (mR M1 3600 x1) 1 M1) fun r4 M3 =>
  if r4 = 0 then
    some (0, M3)
  else
    if mk M3 x1 = 19 then
    ob (K_X0_gather (mR M3 3601 x1) (-1) M3) fun r9 M8 =>
    if r9 = 0 then
      some (0, M8)
    else
      if mI M8 49 1 = 2 then
        if inb 0 2 then
        if inb 1 2 then
        if mA M8 117 (ix 0) = mA M8 117 (ix 1) then
          some (0, M8)
        else
          some (1, M8)
        else none
        else none
      else
        some (0, M8)
    else none
  else none
def KL_X0_aliases_2 : Nat → Int32 → CM → Option (Unit × CM)
  | 0, _, _ => none
  | n + 1, x1, M =>
    if mI M 15 1 ≤ x1 then
      some ((), M)
    else
      ob (K_J2_get 98 x1 M) fun r2 M1 =>
      if r2 = 0 ∨ mk M1 r2 = 17 then
      if mk M1 r2 = 17 then
      nm (msI M1 3217 r2 x1) fun M7 =>
      ob (K_J2_get 98 x1 M7) fun r9 M8 =>
      if r9 = 0 ∨ mk M8 r9 = 17 then
      if mk M8 r9 = 17 then
      nm (msI M8 3218 r9 1) fun M14 =>
      ob (K_J2_get 98 x1 M14) fun r16 M15 =>
      if r16 = 0 ∨ mk M15 r16 = 17 then
      if mk M15 r16 = 17 then
      nm (msI M15 3219 r16 (-1)) fun M21 =>
      nm (x1 + 1) fun v22 =>
      KL_X0_aliases_2 n v22 M21
      else none
      else none
      else none
      else none
      else none
      else none
def KL_X0_aliases_229 : Nat → Int32 → Int32 → Int32 → Int32 → Int32 → CM → Option (Unit × CM)
  | 0, _, _, _, _, _, _ => none
  | n + 1, x1, x4, x5, x6, x7, M =>
    if mI M 15 1 ≤ x7 then
      some ((), M)
    else
      ob (K_J2_get 98 x7 M) fun r65 M64 =>
      if r65 = 0 ∨ mk M64 r65 = 17 then
      if mk M64 r65 = 17 then
      if mI M64 3217 r65 = x5 then
        ob (K_J2_get 98 x7 M64) fun r72 M71 =>
        if r72 = 0 ∨ mk M71 r72 = 17 then
        if mk M71 r72 = 17 then
        nm (msI M71 3217 r72 x6) fun M77 =>
        ob (K_J2_get 98 x7 M77) fun r79 M78 =>
        if r79 = 0 ∨ mk M78 r79 = 17 then
        if mk M78 r79 = 17 then
        if mk M78 r79 = 17 then
        nm (msI M78 3218 r79 ((mI M78 3218 r79) * x4)) fun M85 =>
        nm (x7 + 1) fun v86 =>
        KL_X0_aliases_229 n x1 x4 x5 x6 v86 M85
        else none
        else none
        else none
        else none
        else none
      else
        nm (x7 + 1) fun v70 =>
        KL_X0_aliases_229 n x1 x4 x5 x6 v70 M64
      else none
      else none
def KJ_X0_aliases_224_68 (rec : Int32 → CM → Option (Unit × CM)) (x1 : Int32) (x4 : Int32) (x5 : Int32) (y0 : Int32) (M : CM) : Option (Unit × CM) :=
  ob (KL_X0_aliases_229 FU x1 x4 x5 y0 0 M) fun q89 M90 =>
  if inb x1 180 then
  nm (mwA M90 128 (ix x1) (nZ 1)) fun M93 =>
  nm (msI M93 66 1 ((mI M93 66 1) + 1)) fun M94 =>
  nm (x1 + 1) fun v95 =>
  rec v95 M94
  else none
def KJ_X0_aliases_200_68 (rec : Int32 → CM → Option (Unit × CM)) (x1 : Int32) (x2 : Nat) (x3 : Nat) (x4 : Int32) (y0 : Int32) (M : CM) : Option (Unit × CM) :=
  if mk M x2 = 17 then
  if mk M x3 = 17 then
  if mI M 3217 x2 ≤ mI M 3217 x3 then
    if mk M x2 = 17 then
    KJ_X0_aliases_224_68 rec x1 x4 y0 (mI M 3217 x2) M
    else none
  else
    if mk M x3 = 17 then
    KJ_X0_aliases_224_68 rec x1 x4 y0 (mI M 3217 x3) M
    else none
  else none
  else none
def KL_X0_aliases_68 : Nat → Int32 → CM → Option (Unit × CM)
  | 0, _, _ => none
  | n + 1, x1, M =>
    if mI M 35 1 ≤ x1 then
      some ((), M)
    else
      if inb x1 180 then
      nm (mwA M 128 (ix x1) (nZ 0)) fun M29 =>
      ob (K_J2_get 111 x1 M29) fun r31 M30 =>
      if r31 = 0 ∨ mk M30 r31 = 19 then
      ob (K_X0_isAlias r31 M30) fun r36 M35 =>
      if r36 = 0 then
        nm (x1 + 1) fun v103 =>
        KL_X0_aliases_68 n v103 M35
      else
        if inb 0 2 then
        ob (K_J2_get 98 (mA M35 117 (ix 0)) M35) fun r41 M40 =>
        if r41 = 0 ∨ mk M40 r41 = 17 then
        if inb 1 2 then
        ob (K_J2_get 98 (mA M40 117 (ix 1)) M40) fun r47 M46 =>
        if r47 = 0 ∨ mk M46 r47 = 17 then
        if mk M46 r41 = 17 then
        if mk M46 r47 = 17 then
        if mI M46 3217 r41 = mI M46 3217 r47 then
          nm (x1 + 1) fun v101 =>
          KL_X0_aliases_68 n v101 M46
        else
          if inb 0 2 then
          if inb 1 2 then
          if mk M46 r41 = 17 then
          if mk M46 r47 = 17 then
          nm ((((-(mA M46 118 (ix 0))) * (mA M46 118 (ix 1))) * (mI M46 3218 r41)) * (mI M46 3218 r47)) fun v57 =>
          if mk M46 r41 = 17 then
          if mk M46 r47 = 17 then
          if mI M46 3217 r41 ≤ mI M46 3217 r47 then
            if mk M46 r47 = 17 then
            KJ_X0_aliases_200_68 (KL_X0_aliases_68 n) x1 r41 r47 v57 (mI M46 3217 r47) M46
            else none
          else
            if mk M46 r41 = 17 then
            KJ_X0_aliases_200_68 (KL_X0_aliases_68 n) x1 r41 r47 v57 (mI M46 3217 r41) M46
            else none
          else none
          else none
          else none
          else none
          else none
          else none
        else none
        else none
        else none
        else none
        else none
        else none
      else none
      else none
def K_X0_aliases (M : CM) : Option (Unit × CM) :=
  ob (KL_X0_aliases_2 FU 0 M) fun q24 M25 =>
  nm (msI M25 66 1 0) fun M27 =>
  ob (KL_X0_aliases_68 FU 0 M27) fun q106 M107 =>
  some ((), M107)
def KL_X0_alike_45 (cf_X0_unit : Nat → Int32 → CM → Option (Int32 × CM)) : Nat → Int32 → Int32 → Int32 → CM → Option (Unit × CM)
  | 0, _, _, _, _ => none
  | n + 1, x3, x5, x6, M =>
    if x3 + 3 ≤ x6 then
      some ((), M)
    else
      if x5 = 0 then
        if inb x6 700 then
        if inb (x6 + 3) 700 then
        if mA M 116 (ix x6) = mA M 116 (ix (x6 + 3)) then
          nm (msI M 45 1 ((mI M 45 1) &&& 1)) fun M14 =>
          nm (x6 + 1) fun v15 =>
          KL_X0_alike_45 cf_X0_unit n x3 x5 v15 M14
        else
          nm (msI M 45 1 ((mI M 45 1) &&& 0)) fun M12 =>
          nm (x6 + 1) fun v13 =>
          KL_X0_alike_45 cf_X0_unit n x3 x5 v13 M12
        else none
        else none
      else
        some ((), M)
def KB_X0_alike (cf_X0_unit : Nat → Int32 → CM → Option (Int32 × CM)) (x1 : Nat) (x2 : Nat) (x3 : Int32) (M : CM) : Option (Int32 × CM) :=
  ob (cf_X0_unit x1 x3 M) fun r2 M1 =>
  ob (cf_X0_unit x2 (x3 + 3) M1) fun r6 M5 =>
  if r2 = 0 then
    ob (KL_X0_alike_45 cf_X0_unit FU x3 r6 x3 M5) fun q19 M20 =>
    some (0, M20)
  else
    if mk M5 116 = 50 ∧ mk M5 116 = 50 ∧ ¬ x3 + 3 < 0 ∧ ¬ x3 < 0 ∧ ¬ (3 : Int32) < 0 ∧ ix (x3 + 3) + ix 3 ≤ ml M5 116 ∧ ix x3 + ix 3 ≤ ml M5 116 then
    nm (mcA M5 116 (ix (x3 + 3)) 116 (ix x3) (ix 3)) fun M24 =>
    some (r6, M24)
    else none
def KL_X0_unit_8 (cf_X0_unit : Nat → Int32 → CM → Option (Int32 × CM)) (cf_X0_alike : Nat → Nat → Int32 → CM → Option (Int32 × CM)) : Nat → Nat → Int32 → Nat → Int32 → CM → Option (Unit × CM)
  | 0, _, _, _, _, _ => none
  | n + 1, x1, x2, x3, x4, M =>
    if x2 + 3 ≤ x4 then
      some ((), M)
    else
      if mk M x3 = 50 ∧ inb x4 (ml M x3) then
      nm (mwA M x3 (ix x4) 0) fun M2 =>
      nm (x4 + 1) fun v3 =>
      KL_X0_unit_8 cf_X0_unit cf_X0_alike n x1 x2 x3 v3 M2
      else none
def KL_X0_unit_303 (cf_X0_unit : Nat → Int32 → CM → Option (Int32 × CM)) (cf_X0_alike : Nat → Nat → Int32 → CM → Option (Int32 × CM)) : Nat → Nat → Int32 → Nat → Int32 → Int32 → Int32 → CM → Option (Unit × CM)
  | 0, _, _, _, _, _, _, _ => none
  | n + 1, x1, x2, x3, x4, x5, x6, M =>
    if x2 + 3 ≤ x6 then
      some ((), M)
    else
      if mk M x3 = 50 ∧ inb x6 (ml M x3) then
      if mk M x1 = 18 then
      if mI M 3400 x1 = 5 then
        if mk M x3 = 50 ∧ inb (x6 + 3) (ml M x3) then
        if mk M x3 = 50 ∧ inb x6 (ml M x3) then
        nm (mwA M x3 (ix x6) ((mA M x3 (ix x6)) + (mA M x3 (ix (x6 + 3))))) fun M79 =>
        nm (x6 + 1) fun v80 =>
        KL_X0_unit_303 cf_X0_unit cf_X0_alike n x1 x2 x3 x4 x5 v80 M79
        else none
        else none
      else
        if mk M x3 = 50 ∧ inb (x6 + 3) (ml M x3) then
        if mk M x3 = 50 ∧ inb x6 (ml M x3) then
        nm (mwA M x3 (ix x6) ((mA M x3 (ix x6)) + (-(mA M x3 (ix (x6 + 3)))))) fun M75 =>
        nm (x6 + 1) fun v76 =>
        KL_X0_unit_303 cf_X0_unit cf_X0_alike n x1 x2 x3 x4 x5 v76 M75
        else none
        else none
      else none
      else none
def KL_X0_unit_228 (cf_X0_unit : Nat → Int32 → CM → Option (Int32 × CM)) (cf_X0_alike : Nat → Nat → Int32 → CM → Option (Int32 × CM)) : Nat → Int32 → Nat → Int32 → Int32 → CM → Option (Unit × CM)
  | 0, _, _, _, _, _ => none
  | n + 1, x2, x3, x4, x5, M =>
    if x2 + 3 ≤ x5 then
      some ((), M)
    else
      if mk M x3 = 50 ∧ inb x5 (ml M x3) then
      if (mA M x3 (ix x5)) - (mA M x3 (ix x5)) / 2 * 2 = 0 then
        nm (msI M 45 1 ((mI M 45 1) &&& 1)) fun M131 =>
        if mk M131 x3 = 50 ∧ inb x5 (ml M131 x3) then
        if mk M131 x3 = 50 ∧ inb x5 (ml M131 x3) then
        nm (mwA M131 x3 (ix x5) ((mA M131 x3 (ix x5)) / 2)) fun M134 =>
        nm (x5 + 1) fun v135 =>
        KL_X0_unit_228 cf_X0_unit cf_X0_alike n x2 x3 x4 v135 M134
        else none
        else none
      else
        nm (msI M 45 1 ((mI M 45 1) &&& 0)) fun M126 =>
        if mk M126 x3 = 50 ∧ inb x5 (ml M126 x3) then
        if mk M126 x3 = 50 ∧ inb x5 (ml M126 x3) then
        nm (mwA M126 x3 (ix x5) ((mA M126 x3 (ix x5)) / 2)) fun M129 =>
        nm (x5 + 1) fun v130 =>
        KL_X0_unit_228 cf_X0_unit cf_X0_alike n x2 x3 x4 v130 M129
        else none
        else none
      else none
def KL_X0_unit_193 (cf_X0_unit : Nat → Int32 → CM → Option (Int32 × CM)) (cf_X0_alike : Nat → Nat → Int32 → CM → Option (Int32 × CM)) : Nat → Int32 → Nat → Int32 → CM → Option (Unit × CM)
  | 0, _, _, _, _ => none
  | n + 1, x2, x3, x4, M =>
    if x2 + 3 ≤ x4 then
      some ((), M)
    else
      if mk M x3 = 50 ∧ inb x4 (ml M x3) then
      nm (mwA M x3 (ix x4) 0) fun M179 =>
      nm (x4 + 1) fun v180 =>
      KL_X0_unit_193 cf_X0_unit cf_X0_alike n x2 x3 v180 M179
      else none
def KB_X0_unit (cf_X0_unit : Nat → Int32 → CM → Option (Int32 × CM)) (cf_X0_alike : Nat → Nat → Int32 → CM → Option (Int32 × CM)) (x1 : Nat) (x2 : Int32) (M : CM) : Option (Int32 × CM) :=
  ob (KL_X0_unit_8 cf_X0_unit cf_X0_alike FU x1 x2 116 x2 M) fun q5 M6 =>
  if mk M6 x1 = 18 then
  if mI M6 3400 x1 = 0 then
    some (1, M6)
  else
  if mI M6 3400 x1 = 1 then
    if mk M6 x1 = 18 then
    ob (K_J2_get 98 (mI M6 3401 x1) M6) fun r13 M12 =>
    if r13 = 0 ∨ mk M12 r13 = 17 then
    if mk M12 r13 = 17 then
    if mk M12 (mR M12 3204 r13) = 50 ∧ mk M12 116 = 50 ∧ ¬ (0 : Int32) < 0 ∧ ¬ x2 < 0 ∧ ¬ (3 : Int32) < 0 ∧ ix 0 + ix 3 ≤ ml M12 (mR M12 3204 r13) ∧ ix x2 + ix 3 ≤ ml M12 116 then
    nm (mcA M12 (mR M12 3204 r13) (ix 0) 116 (ix x2) (ix 3)) fun M19 =>
    if inb (x2 + 1) 700 then
    if mk M19 x1 = 18 then
    if mI M19 3400 x1 = 15 then
      if inb (x2 + 1) 700 then
      nm (mwA M19 116 (ix (x2 + 1)) ((mA M19 116 (ix (x2 + 1))) - 1)) fun M25 =>
      some (0, M25)
      else none
    else
      if inb (x2 + 1) 700 then
      nm (mwA M19 116 (ix (x2 + 1)) ((mA M19 116 (ix (x2 + 1))) - 0)) fun M23 =>
      some (0, M23)
      else none
    else none
    else none
    else none
    else none
    else none
    else none
  else
  if mI M6 3400 x1 = 2 then
    if inb (x2 + 1) 700 then
    nm (mwA M6 116 (ix (x2 + 1)) 1) fun M29 =>
    some (0, M29)
    else none
  else
  if mI M6 3400 x1 = 3 then
    if mk M6 x1 = 18 then
    if mI M6 3400 x1 = 14 then
      if mk M6 x1 = 18 then
      if mk M6 x1 = 18 then
      ob (cf_X0_alike (mR M6 3406 x1) (mR M6 3407 x1) x2 M6) fun r41 M40 =>
      some (r41, M40)
      else none
      else none
    else
      if mk M6 x1 = 18 then
      if mk M6 x1 = 18 then
      ob (cf_X0_alike (mR M6 3405 x1) (mR M6 3406 x1) x2 M6) fun r35 M34 =>
      some (r35, M34)
      else none
      else none
    else none
  else
  if mI M6 3400 x1 = 4 then
    if mk M6 x1 = 18 then
    if mI M6 3400 x1 = 14 then
      if mk M6 x1 = 18 then
      if mk M6 x1 = 18 then
      ob (cf_X0_alike (mR M6 3406 x1) (mR M6 3407 x1) x2 M6) fun r56 M55 =>
      some (r56, M55)
      else none
      else none
    else
      if mk M6 x1 = 18 then
      if mk M6 x1 = 18 then
      ob (cf_X0_alike (mR M6 3405 x1) (mR M6 3406 x1) x2 M6) fun r50 M49 =>
      some (r50, M49)
      else none
      else none
    else none
  else
  if mI M6 3400 x1 = 5 then
    if mk M6 x1 = 18 then
    ob (cf_X0_unit (mR M6 3405 x1) x2 M6) fun r63 M62 =>
    if mk M62 x1 = 18 then
    ob (cf_X0_unit (mR M62 3406 x1) (x2 + 3) M62) fun r68 M67 =>
    ob (KL_X0_unit_303 cf_X0_unit cf_X0_alike FU x1 x2 116 r63 r68 x2 M67) fun q83 M84 =>
    if r63 = 0 then
      some (0, M84)
    else
      if r68 = 0 then
        some (0, M84)
      else
        some (1, M84)
    else none
    else none
  else
  if mI M6 3400 x1 = 6 then
    if mk M6 x1 = 18 then
    ob (cf_X0_unit (mR M6 3405 x1) x2 M6) fun r92 M91 =>
    if mk M91 x1 = 18 then
    ob (cf_X0_unit (mR M91 3406 x1) (x2 + 3) M91) fun r97 M96 =>
    ob (KL_X0_unit_303 cf_X0_unit cf_X0_alike FU x1 x2 116 r92 r97 x2 M96) fun q100 M101 =>
    if r92 = 0 then
      some (0, M101)
    else
      if r97 = 0 then
        some (0, M101)
      else
        some (1, M101)
    else none
    else none
  else
  if mI M6 3400 x1 = 7 then
    if mk M6 x1 = 18 then
    ob (cf_X0_unit (mR M6 3405 x1) x2 M6) fun r109 M108 =>
    some (r109, M108)
    else none
  else
  if mI M6 3400 x1 = 8 then
    if mk M6 x1 = 18 then
    ob (cf_X0_unit (mR M6 3405 x1) x2 M6) fun r115 M114 =>
    some (r115, M114)
    else none
  else
  if mI M6 3400 x1 = 9 then
    if mk M6 x1 = 18 then
    ob (cf_X0_unit (mR M6 3405 x1) x2 M6) fun r121 M120 =>
    ob (KL_X0_unit_228 cf_X0_unit cf_X0_alike FU x2 116 r121 x2 M120) fun q138 M139 =>
    some (r121, M139)
    else none
  else
  if mI M6 3400 x1 = 10 then
    if mk M6 x1 = 18 then
    if mI M6 3400 x1 = 14 then
      if mk M6 x1 = 18 then
      if mk M6 x1 = 18 then
      ob (cf_X0_alike (mR M6 3406 x1) (mR M6 3407 x1) x2 M6) fun r153 M152 =>
      some (r153, M152)
      else none
      else none
    else
      if mk M6 x1 = 18 then
      if mk M6 x1 = 18 then
      ob (cf_X0_alike (mR M6 3405 x1) (mR M6 3406 x1) x2 M6) fun r147 M146 =>
      some (r147, M146)
      else none
      else none
    else none
  else
  if mI M6 3400 x1 = 11 then
    if mk M6 x1 = 18 then
    if mI M6 3400 x1 = 14 then
      if mk M6 x1 = 18 then
      if mk M6 x1 = 18 then
      ob (cf_X0_alike (mR M6 3406 x1) (mR M6 3407 x1) x2 M6) fun r168 M167 =>
      some (r168, M167)
      else none
      else none
    else
      if mk M6 x1 = 18 then
      if mk M6 x1 = 18 then
      ob (cf_X0_alike (mR M6 3405 x1) (mR M6 3406 x1) x2 M6) fun r162 M161 =>
      some (r162, M161)
      else none
      else none
    else none
  else
  if mI M6 3400 x1 = 12 then
    if mk M6 x1 = 18 then
    ob (cf_X0_unit (mR M6 3405 x1) x2 M6) fun r175 M174 =>
    ob (KL_X0_unit_193 cf_X0_unit cf_X0_alike FU x2 116 x2 M174) fun q182 M183 =>
    some (1, M183)
    else none
  else
  if mI M6 3400 x1 = 13 then
    if mk M6 x1 = 18 then
    ob (cf_X0_unit (mR M6 3405 x1) x2 M6) fun r189 M188 =>
    some (r189, M188)
    else none
  else
  if mI M6 3400 x1 = 14 then
    if mk M6 x1 = 18 then
    if mI M6 3400 x1 = 14 then
      if mk M6 x1 = 18 then
      if mk M6 x1 = 18 then
      ob (cf_X0_alike (mR M6 3406 x1) (mR M6 3407 x1) x2 M6) fun r203 M202 =>
      some (r203, M202)
      else none
      else none
    else
      if mk M6 x1 = 18 then
      if mk M6 x1 = 18 then
      ob (cf_X0_alike (mR M6 3405 x1) (mR M6 3406 x1) x2 M6) fun r197 M196 =>
      some (r197, M196)
      else none
      else none
    else none
  else
  if mI M6 3400 x1 = 15 then
    if mk M6 x1 = 18 then
    ob (K_J2_get 98 (mI M6 3401 x1) M6) fun r210 M209 =>
    if r210 = 0 ∨ mk M209 r210 = 17 then
    if mk M209 r210 = 17 then
    if mk M209 (mR M209 3204 r210) = 50 ∧ mk M209 116 = 50 ∧ ¬ (0 : Int32) < 0 ∧ ¬ x2 < 0 ∧ ¬ (3 : Int32) < 0 ∧ ix 0 + ix 3 ≤ ml M209 (mR M209 3204 r210) ∧ ix x2 + ix 3 ≤ ml M209 116 then
    nm (mcA M209 (mR M209 3204 r210) (ix 0) 116 (ix x2) (ix 3)) fun M216 =>
    if inb (x2 + 1) 700 then
    if mk M216 x1 = 18 then
    if mI M216 3400 x1 = 15 then
      if inb (x2 + 1) 700 then
      nm (mwA M216 116 (ix (x2 + 1)) ((mA M216 116 (ix (x2 + 1))) - 1)) fun M222 =>
      some (0, M222)
      else none
    else
      if inb (x2 + 1) 700 then
      nm (mwA M216 116 (ix (x2 + 1)) ((mA M216 116 (ix (x2 + 1))) - 0)) fun M220 =>
      some (0, M220)
      else none
    else none
    else none
    else none
    else none
    else none
    else none
  else
  if mI M6 3400 x1 = 16 then
    if mk M6 x1 = 18 then
    ob (K_J2_get 98 (mI M6 3401 x1) M6) fun r227 M226 =>
    if r227 = 0 ∨ mk M226 r227 = 17 then
    if mk M226 r227 = 17 then
    if mk M226 (mR M226 3204 r227) = 50 ∧ mk M226 116 = 50 ∧ ¬ (0 : Int32) < 0 ∧ ¬ x2 < 0 ∧ ¬ (3 : Int32) < 0 ∧ ix 0 + ix 3 ≤ ml M226 (mR M226 3204 r227) ∧ ix x2 + ix 3 ≤ ml M226 116 then
    nm (mcA M226 (mR M226 3204 r227) (ix 0) 116 (ix x2) (ix 3)) fun M233 =>
    if inb (x2 + 1) 700 then
    if mk M233 x1 = 18 then
    if mI M233 3400 x1 = 15 then
      if inb (x2 + 1) 700 then
      nm (mwA M233 116 (ix (x2 + 1)) ((mA M233 116 (ix (x2 + 1))) - 1)) fun M239 =>
      some (0, M239)
      else none
    else
      if inb (x2 + 1) 700 then
      nm (mwA M233 116 (ix (x2 + 1)) ((mA M233 116 (ix (x2 + 1))) - 0)) fun M237 =>
      some (0, M237)
      else none
    else none
    else none
    else none
    else none
    else none
    else none
  else
  if mk M6 x1 = 18 then
  if mI M6 3400 x1 = 14 then
    if mk M6 x1 = 18 then
    if mk M6 x1 = 18 then
    ob (cf_X0_alike (mR M6 3406 x1) (mR M6 3407 x1) x2 M6) fun r251 M250 =>
    some (r251, M250)
    else none
    else none
  else
    if mk M6 x1 = 18 then
    if mk M6 x1 = 18 then
    ob (cf_X0_alike (mR M6 3405 x1) (mR M6 3406 x1) x2 M6) fun r245 M244 =>
    some (r245, M244)
    else none
    else none
  else none
  else none
def KG_X0_alike : Nat → (Nat → Nat → Int32 → CM → Option (Int32 × CM)) × (Nat → Int32 → CM → Option (Int32 × CM))
  | 0 => (fun _ _ _ _ => none, fun _ _ _ => none)
  | d + 1 => (KB_X0_alike (KG_X0_alike d).2, KB_X0_unit (KG_X0_alike d).2 (KG_X0_alike d).1)
def K_X0_alike : Nat → Nat → Int32 → CM → Option (Int32 × CM) := (KG_X0_alike 300).1
def K_X0_unit : Nat → Int32 → CM → Option (Int32 × CM) := (KG_X0_alike 300).2
def K_X11_is (x0 : Nat) (x1 : Int32) (M : CM) : Option (Int32 × CM) :=
  if mk M x0 = 11 then
  if ((mI M 2001 x0) >>> (x1 &&& 31)) &&& 1 = 1 then
    some (1, M)
  else
    some (0, M)
  else none
def K_X16_many (x0 : Nat) (M : CM) : Option (Int32 × CM) :=
  if mk M x0 = 16 then
  if mI M 3002 x0 = 0 then
    some (1, M)
  else
    if mk M x0 = 16 then
    some (mI M 3002 x0, M)
    else none
  else none
def KL_X0_instance_8 : Nat → Nat → Int32 → Int32 → Int32 → CM → Option ((Unit ⊕ Nat) × CM)
  | 0, _, _, _, _, _ => none
  | n + 1, x1, x2, x3, x4, M =>
    if mI M 16 1 ≤ x4 then
      some (.inl (), M)
    else
      ob (K_J2_get 99 x4 M) fun r4 M3 =>
      if r4 = 0 ∨ mk M3 r4 = 14 then
      if mk M3 r4 = 14 then
      if mk M3 x1 = 16 then
      if (mR M3 2601 r4) ≤ 1099511627775 ∧ (mR M3 3006 x1) ≤ 1099511627775 then
      if mR M3 2601 r4 = mR M3 3006 x1 then
        if mk M3 r4 = 14 then
        if mk M3 x1 = 16 then
        if mI M3 2603 r4 = mI M3 3000 x1 then
          if x3 = x2 then
            some (.inr r4, M3)
          else
            nm (x3 + 1) fun v15 =>
            nm (x4 + 1) fun v16 =>
            KL_X0_instance_8 n x1 x2 v15 v16 M3
        else
          nm (x4 + 1) fun v14 =>
          KL_X0_instance_8 n x1 x2 x3 v14 M3
        else none
        else none
      else
        nm (x4 + 1) fun v11 =>
        KL_X0_instance_8 n x1 x2 x3 v11 M3
      else none
      else none
      else none
      else none
def K_X0_instance (x1 : Nat) (x2 : Int32) (M : CM) : Option (Nat × CM) :=
  if mk M x1 = 16 then
  nm (mI M 3005 x1) fun v2 =>
  obS (KL_X0_instance_8 FU x1 x2 0 v2 M) (fun r25 M22 => some (r25, M22)) fun q21 M22 =>
  some (0, M22)
  else none
def KL_X0_model_2 : Nat → Int32 → Int32 → CM → Option ((Unit ⊕ Nat) × CM)
  | 0, _, _, _ => none
  | n + 1, x1, x2, M =>
    ob (K_J2_size 88 M) fun r2 M1 =>
    if r2 ≤ x2 then
      some (.inl (), M1)
    else
      ob (K_J2_get 88 x2 M1) fun r6 M5 =>
      if r6 = 0 ∨ mk M5 r6 = 10 then
      if mk M5 r6 = 10 then
      if mI M5 1800 r6 = x1 then
        ob (K_J2_get 88 x2 M5) fun r13 M12 =>
        if r13 = 0 ∨ mk M12 r13 = 10 then
        some (.inr r13, M12)
        else none
      else
        nm (x2 + 1) fun v11 =>
        KL_X0_model_2 n x1 v11 M5
      else none
      else none
def K_X0_model (x1 : Int32) (M : CM) : Option (Nat × CM) :=
  obS (KL_X0_model_2 FU x1 0 M) (fun r23 M20 => some (r23, M20)) fun q19 M20 =>
  some (0, M20)
def KL_X14_member_2 : Nat → Nat → Int32 → Int32 → CM → Option ((Unit ⊕ Nat) × CM)
  | 0, _, _, _, _ => none
  | n + 1, x0, x1, x2, M =>
    if mk M x0 = 14 then
    if mk M (mR M 2605 x0) = 22 then
    ob (K_J2_size (mR M 2605 x0) M) fun r4 M3 =>
    if r4 ≤ x2 then
      some (.inl (), M3)
    else
      if mk M3 x0 = 14 then
      if mk M3 (mR M3 2605 x0) = 22 then
      ob (K_J2_get (mR M3 2605 x0) x2 M3) fun r10 M9 =>
      if r10 = 0 ∨ mk M9 r10 = 16 then
      if mk M9 r10 = 16 then
      if mI M9 3000 r10 = x1 then
        if mk M9 x0 = 14 then
        if mk M9 (mR M9 2605 x0) = 22 then
        ob (K_J2_get (mR M9 2605 x0) x2 M9) fun r19 M18 =>
        if r19 = 0 ∨ mk M18 r19 = 16 then
        some (.inr r19, M18)
        else none
        else none
        else none
      else
        nm (x2 + 1) fun v15 =>
        KL_X14_member_2 n x0 x1 v15 M9
      else none
      else none
      else none
      else none
    else none
    else none
def K_X14_member (x0 : Nat) (x1 : Int32) (M : CM) : Option (Nat × CM) :=
  obS (KL_X14_member_2 FU x0 x1 0 M) (fun r29 M26 => some (r29, M26)) fun q25 M26 =>
  some (0, M26)
def KL_X0_loopValue_7 : Nat → Int32 → Int32 → CM → Option ((Unit ⊕ Int32) × CM)
  | 0, _, _, _ => none
  | n + 1, x1, x2, M =>
    if x2 < 0 then
      some (.inl (), M)
    else
      if inb x2 17 then
      if mA M 103 (ix x2) = x1 then
        if inb x2 17 then
        some (.inr (mA M 104 (ix x2)), M)
        else none
      else
        nm (x2 + (-1)) fun v3 =>
        KL_X0_loopValue_7 n x1 v3 M
      else none
def K_X0_loopValue (x1 : Int32) (M : CM) : Option (Int32 × CM) :=
  nm ((mI M 24 1) - 1) fun v1 =>
  obS (KL_X0_loopValue_7 FU x1 v1 M) (fun r11 M8 => some (r11, M8)) fun q7 M8 =>
  some (0, M8)
def KJ_X0_follow_220_15 (rec : Nat → Nat → Int32 → CM → Option ((Unit ⊕ (Unit ⊕ Nat)) × CM)) (x2 : Nat) (x4 : Int32) (x6 : Nat) (x8 : Int32) (y0 : Nat) (y1 : Nat) (M : CM) : Option ((Unit ⊕ (Unit ⊕ Nat)) × CM) :=
  if mk M y0 = 1 then
  nm (msR M 20 y0 y1) fun M36 =>
  if mk M36 x6 = 16 then
  if mI M36 3004 x6 = 0 then
    ob (K_X0_instance x6 x8 M36) fun r40 M39 =>
    nm (msR M39 21 1 r40) fun M43 =>
    nm (mR M43 21 1) fun v44 =>
    nm (x4 + 1) fun v45 =>
    rec x2 v44 v45 M43
  else
    nm (msR M36 21 1 0) fun M46 =>
    nm (mR M46 21 1) fun v47 =>
    nm (x4 + 1) fun v48 =>
    rec x2 v47 v48 M46
  else none
  else none
def KJ_X0_follow_187_15 (rec : Nat → Nat → Int32 → CM → Option ((Unit ⊕ (Unit ⊕ Nat)) × CM)) (x2 : Nat) (x4 : Int32) (x6 : Nat) (y0 : Int32) (M : CM) : Option ((Unit ⊕ (Unit ⊕ Nat)) × CM) :=
  if mk M x6 = 16 then
  if mI M 3004 x6 = 0 then
    KJ_X0_follow_220_15 rec x2 x4 x6 y0 1 0 M
  else
    if mk M x6 = 16 then
    ob (K_J2_get 98 ((mI M 3005 x6) + y0) M) fun r52 M51 =>
    if r52 = 0 ∨ mk M51 r52 = 17 then
    KJ_X0_follow_220_15 rec x2 x4 x6 y0 1 r52 M51
    else none
    else none
  else none
def KJ_X0_follow_171_15 (rec : Nat → Nat → Int32 → CM → Option ((Unit ⊕ (Unit ⊕ Nat)) × CM)) (x2 : Nat) (x4 : Int32) (x6 : Nat) (x7 : Int32) (M : CM) : Option ((Unit ⊕ (Unit ⊕ Nat)) × CM) :=
  if mk M x6 = 16 then
  if mI M 3002 x6 ≤ 0 then
    KJ_X0_follow_187_15 rec x2 x4 x6 0 M
  else
    KJ_X0_follow_187_15 rec x2 x4 x6 (x7 - 1) M
  else none
def KJ_X0_follow_137_15 (rec : Nat → Nat → Int32 → CM → Option ((Unit ⊕ (Unit ⊕ Nat)) × CM)) (x2 : Nat) (x4 : Int32) (x6 : Nat) (x7 : Int32) (y0 : Int32) (y1 : Int32) (M : CM) : Option ((Unit ⊕ (Unit ⊕ Nat)) × CM) :=
  if y0 = y1 then
    if mk M x6 = 16 then
    if mI M 3002 x6 ≤ 0 then
      KJ_X0_follow_171_15 rec x2 x4 x6 x7 M
    else
      if x7 < 1 then
        ob (K_X0_wrong 27 0 M) fun r59 M58 =>
        if mk M58 r59 = 7 then
        some (.inr (.inr r59), M58)
        else none
      else
        if mk M x6 = 16 then
        if x7 ≤ mI M 3002 x6 then
          KJ_X0_follow_171_15 rec x2 x4 x6 x7 M
        else
          ob (K_X0_wrong 27 0 M) fun r65 M64 =>
          if mk M64 r65 = 7 then
          some (.inr (.inr r65), M64)
          else none
        else none
    else none
  else
    ob (K_X0_wrong 27 0 M) fun r27 M26 =>
    if mk M26 r27 = 7 then
    some (.inr (.inr r27), M26)
    else none
def KJ_X0_follow_117_15 (rec : Nat → Nat → Int32 → CM → Option ((Unit ⊕ (Unit ⊕ Nat)) × CM)) (x2 : Nat) (x4 : Int32) (x5 : Nat) (x6 : Nat) (y0 : Int32) (M : CM) : Option ((Unit ⊕ (Unit ⊕ Nat)) × CM) :=
  if mk M x5 = 9 then
  if mk M x6 = 16 then
  if mI M 3002 x6 ≤ 0 then
    KJ_X0_follow_137_15 rec x2 x4 x6 y0 (mI M 1601 x5) 0 M
  else
    KJ_X0_follow_137_15 rec x2 x4 x6 y0 (mI M 1601 x5) 1 M
  else none
  else none
def KJ_X0_follow_84_15 (rec : Nat → Nat → Int32 → CM → Option ((Unit ⊕ (Unit ⊕ Nat)) × CM)) (x2 : Nat) (x4 : Int32) (x5 : Nat) (y0 : Nat) (M : CM) : Option ((Unit ⊕ (Unit ⊕ Nat)) × CM) :=
  if mk M x5 = 9 then
  if mI M 1602 x5 < 0 then
    if mk M x5 = 9 then
    KJ_X0_follow_117_15 rec x2 x4 x5 y0 (mI M 1603 x5) M
    else none
  else
    if mk M x5 = 9 then
    ob (K_X0_loopValue (mI M 1602 x5) M) fun r76 M75 =>
    if mk M75 x5 = 9 then
    KJ_X0_follow_117_15 rec x2 x4 x5 y0 (r76 + (mI M75 1603 x5)) M75
    else none
    else none
  else none
def KJ_X0_follow_52_15 (rec : Nat → Nat → Int32 → CM → Option ((Unit ⊕ (Unit ⊕ Nat)) × CM)) (x2 : Nat) (x4 : Int32) (x5 : Nat) (y0 : Nat) (M : CM) : Option ((Unit ⊕ (Unit ⊕ Nat)) × CM) :=
  if y0 = 0 then
    ob (K_X0_wrong 26 0 M) fun r84 M83 =>
    if mk M83 r84 = 7 then
    some (.inr (.inr r84), M83)
    else none
  else
    if mk M y0 = 16 then
    if mR M 3007 y0 = 0 then
      KJ_X0_follow_84_15 rec x2 x4 x5 y0 M
    else
      if mk M y0 = 16 then
      KJ_X0_follow_84_15 rec x2 x4 x5 (mR M 3007 y0) M
      else none
    else none
def KL_X0_follow_15 : Nat → Nat → Nat → Int32 → CM → Option ((Unit ⊕ (Unit ⊕ Nat)) × CM)
  | 0, _, _, _, _ => none
  | n + 1, x2, x3, x4, M =>
    if mk M x2 = 22 then
    ob (K_J2_size x2 M) fun r5 M4 =>
    if r5 ≤ x4 then
      some (.inl (), M4)
    else
      if mk M4 x2 = 22 then
      ob (K_J2_get x2 x4 M4) fun r10 M9 =>
      if r10 = 0 ∨ mk M9 r10 = 9 then
      if x3 = 0 then
        KJ_X0_follow_52_15 (KL_X0_follow_15 n) x2 x4 r10 0 M9
      else
        if mk M9 r10 = 9 then
        if mk M9 x3 = 14 then
        ob (K_X14_member x3 (mI M9 1600 r10) M9) fun r17 M16 =>
        KJ_X0_follow_52_15 (KL_X0_follow_15 n) x2 x4 r10 r17 M16
        else none
        else none
      else none
      else none
    else none
def K_X0_follow (x1 : Nat) (x2 : Nat) (M : CM) : Option ((Unit ⊕ Nat) × CM) :=
  nm (msR M 20 1 0) fun M1 =>
  nm (msR M1 21 1 0) fun M2 =>
  obS (KL_X0_follow_15 FU x2 x1 0 M2) (fun r95 M92 => some (r95, M92)) fun q91 M92 =>
  some (.inl (), M92)
def K_X0_face (x1 : Nat) (x2 : Nat) (M : CM) : Option ((Int32 ⊕ Nat) × CM) :=
  if mk M x2 = 8 then
  obS (K_X0_follow x1 (mR M 1405 x2) M) (fun w6 M2 =>
      some (.inr w6, M2))
  fun r3 M2 =>
  nm (mR M2 21 1) fun v7 =>
  if v7 = 0 then
    ob (K_X0_wrong 26 0 M2) fun r9 M8 =>
    if mk M8 r9 = 7 then
    some (.inr r9, M8)
    else none
  else
    if mk M2 v7 = 14 then
    if mk M2 (mR M2 2602 v7) = 10 then
    if mI M2 1801 (mR M2 2602 v7) = 0 then
      ob (K_X0_wrong 26 0 M2) fun r38 M37 =>
      if mk M37 r38 = 7 then
      some (.inr r38, M37)
      else none
    else
      if mk M2 v7 = 14 then
      if (mR M2 2601 v7) ≤ 1099511627775 ∧ x1 ≤ 1099511627775 then
      if mR M2 2601 v7 = x1 then
        if mk M2 v7 = 14 then
        some (.inl (2 * (mI M2 2600 v7)), M2)
        else none
      else
        if mk M2 v7 = 14 then
        if mR M2 2601 v7 = 0 then
          ob (K_X0_wrong 26 0 M2) fun r20 M19 =>
          if mk M19 r20 = 7 then
          some (.inr r20, M19)
          else none
        else
          if mk M2 v7 = 14 then
          if mk M2 (mR M2 2601 v7) = 14 then
          if (mR M2 2601 (mR M2 2601 v7)) ≤ 1099511627775 ∧ x1 ≤ 1099511627775 then
          if mR M2 2601 (mR M2 2601 v7) = x1 then
            if mk M2 v7 = 14 then
            some (.inl ((2 * (mI M2 2600 v7)) + 1), M2)
            else none
          else
            ob (K_X0_wrong 26 0 M2) fun r29 M28 =>
            if mk M28 r29 = 7 then
            some (.inr r29, M28)
            else none
          else none
          else none
          else none
        else none
      else none
      else none
    else none
    else none
  else none
def KL_X0_top_2 : Nat → Int32 → CM → Option (Int32 × CM)
  | 0, _, _ => none
  | n + 1, x2, M =>
    if inb x2 400 then
    if mA M 115 (ix x2) = x2 then
      some (x2, M)
    else
      if inb x2 400 then
      nm (mA M 115 (ix x2)) fun v3 =>
      KL_X0_top_2 n v3 M
      else none
    else none
def K_X0_top (x1 : Int32) (M : CM) : Option (Int32 × CM) :=
  ob (KL_X0_top_2 FU x1 M) fun q5 M6 =>
  some (q5, M6)
def K_X0_connect (x1 : Nat) (x2 : Nat) (M : CM) : Option ((Unit ⊕ Nat) × CM) :=
  if mk M x2 = 13 then
  obS (K_X0_face x1 (mR M 2401 x2) M) (fun w6 M2 =>
      some (.inr w6, M2))
  fun r3 M2 =>
  if mk M2 x2 = 13 then
  obS (K_X0_face x1 (mR M2 2402 x2) M2) (fun w12 M8 =>
      some (.inr w12, M8))
  fun r9 M8 =>
  if r3 = r9 then
    ob (K_X0_wrong 32 0 M8) fun r14 M13 =>
    if mk M13 r14 = 7 then
    some (.inr r14, M13)
    else none
  else
    ob (K_J2_get 99 (r3 / 2) M8) fun r19 M18 =>
    if r19 = 0 ∨ mk M18 r19 = 14 then
    if mk M18 r19 = 14 then
    ob (K_J2_get 99 (r9 / 2) M18) fun r25 M24 =>
    if r25 = 0 ∨ mk M24 r25 = 14 then
    if mk M24 r25 = 14 then
    if (mR M18 2602 r19) ≤ 1099511627775 ∧ (mR M24 2602 r25) ≤ 1099511627775 then
    if mR M18 2602 r19 = mR M24 2602 r25 then
      ob (K_X0_top r3 M24) fun r32 M31 =>
      ob (K_X0_top r9 M31) fun r36 M35 =>
      if r36 ≤ r32 then
        if r36 ≤ r32 then
          if inb r32 400 then
          nm (mwA M35 115 (ix r32) r36) fun M40 =>
          some (.inl (), M40)
          else none
        else
          if inb r32 400 then
          nm (mwA M35 115 (ix r32) r32) fun M42 =>
          some (.inl (), M42)
          else none
      else
        if r36 ≤ r32 then
          if inb r36 400 then
          nm (mwA M35 115 (ix r36) r36) fun M45 =>
          some (.inl (), M45)
          else none
        else
          if inb r36 400 then
          nm (mwA M35 115 (ix r36) r32) fun M47 =>
          some (.inl (), M47)
          else none
    else
      ob (K_X0_wrong 32 0 M24) fun r51 M50 =>
      if mk M50 r51 = 7 then
      some (.inr r51, M50)
      else none
    else none
    else none
    else none
    else none
    else none
  else none
  else none
def K_X3_clear (x0 : Nat) (M : CM) : Option (Unit × CM) :=
  if mk M x0 = 4 then
  nm (msI M 604 x0 0) fun M2 =>
  if mk M2 x0 = 4 then
  nm (msI M2 605 x0 0) fun M4 =>
  some ((), M4)
  else none
  else none
def K_X18_init (x0 : Nat) (M : CM) : Option (Unit × CM) :=
  if ¬ x0 = 0 then
  some ((), M)
  else none
