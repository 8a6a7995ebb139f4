/-! Layer B: how an unknown is in an equation, both sides -/
set_option maxRecDepth 100000
def hwO (op : Int32) (x y z : Nat) : Nat := if op = 3 ∨ op = 4 ∨ op = 7 then max x y else if op = 5 then (if 0 < x ∧ 0 < y then 2 else x + y) else if op = 6 then (if 0 < y then 2 else x) else if op = 14 then (if 0 < x then 2 else max y z) else (if x + y + z = 0 then 0 else 2)
section HOW
variable {D : FQ} {M : CM} {s : TS} {V K N h st a n m p q r u v w x y z : Nat} {op k : Int32} {cf : Nat → Int32 → CM → Option (Int32 × CM)} {ct cs : Int32 → Int32 → TS → Option (Int32 × TS)}
theorem nI_le0 (hx : x < 1000) : nI x ≤ 0 ↔ x = 0 := by
  rw [show (0 : Int32) = nI 0 from rfl, bI_le (by omega) (by decide)]; omega
theorem nI_mx (hx : x < 1000) (hy : y < 1000) (M : CM) : (if nI x ≤ nI y then some (nI y, M) else some (nI x, M)) = some (nI (max x y), M) := by
  by_cases z : x ≤ y
  · rw [ifT ((bI_le (by omega) (by omega)).mpr z), Nat.max_eq_right z]
  · rw [ifF (fun q => z ((bI_le (by omega) (by omega)).mp q)), Nat.max_eq_left (by omega)]
theorem k_how0 (f : Nat) (x2 : Int32) (M : CM) : KG_X0_howIn (f + 1) 0 x2 M = some (nI 0, M) := by
  show KB_X0_howIn (KG_X0_howIn f) 0 x2 M = _
  unfold KB_X0_howIn
  rw [ifT rfl]; rfl
theorem k_how (hk : mk M a = 18) (ha : a ≠ 0) (ho : mI M 3400 a = op) (h17 : op ≠ 17) (x2 : Int32) (e1 : cf (mR M 3405 a) x2 M = some (nI x, M)) (e2 : cf (mR M 3406 a) x2 M = some (nI y, M)) (e3 : cf (mR M 3407 a) x2 M = some (nI z, M)) (hx : x ≤ 2 ∧ y ≤ 2 ∧ z ≤ 2) : KB_X0_howIn cf a x2 M = some (nI (hwO op x y z), M) := by
  have dflt : (if (nI x + nI y) + nI z ≤ 0 then some ((0 : Int32), M) else some (2, M)) = some (nI (if x + y + z = 0 then 0 else 2), M) := by
    rw [bI_add, bI_add]
    by_cases q : x + y + z = 0
    · rw [ifT q, ifT ((nI_le0 (by omega)).mpr q)]; rfl
    · rw [ifF q, ifF (fun t => q ((nI_le0 (by omega)).mp t))]; rfl
  unfold KB_X0_howIn
  rw [ifF ha, ifT hk, e1, ob_some, ifT hk, e2, ob_some, ifT hk, e3, ob_some, ifT hk, ho, nI_mx (by omega) (by omega), nI_mx (by omega) (by omega), dflt]
  unfold hwO
  by_cases c3 : op = 3
  · rw [ifT c3, ifT (Or.inl c3)]
  rw [ifF c3]
  by_cases c4 : op = 4
  · rw [ifT c4, ifT (Or.inr (Or.inl c4))]
  rw [ifF c4]
  by_cases c5 : op = 5
  · rw [ifT c5, ifF (show ¬ (op = 3 ∨ op = 4 ∨ op = 7) by rw [c5]; decide), ifT c5]
    by_cases q : x = 0
    · rw [ifT ((nI_le0 (by omega)).mpr q), ifF (fun t => by omega), bI_add]
    · rw [ifF (fun t => q ((nI_le0 (by omega)).mp t))]
      by_cases q2 : y = 0
      · rw [ifT ((nI_le0 (by omega)).mpr q2), ifF (fun t => by omega), bI_add]
      · rw [ifF (fun t => q2 ((nI_le0 (by omega)).mp t)), ifT ⟨by omega, by omega⟩]; rfl
  rw [ifF c5]
  by_cases c6 : op = 6
  · rw [ifT c6, ifF (show ¬ (op = 3 ∨ op = 4 ∨ op = 7) by rw [c6]; decide), ifF c5, ifT c6]
    by_cases q : y = 0
    · rw [ifT ((nI_le0 (by omega)).mpr q), ifF (fun t => by omega)]
    · rw [ifF (fun t => q ((nI_le0 (by omega)).mp t)), ifT (by omega)]; rfl
  rw [ifF c6]
  by_cases c7 : op = 7
  · rw [ifT c7, ifT (Or.inr (Or.inr c7))]
  have n3 : ¬ (op = 3 ∨ op = 4 ∨ op = 7) := fun t => t.elim c3 (fun t => t.elim c4 c7)
  rw [ifF c7, ifF n3, ifF c5, ifF c6]
  by_cases c14 : op = 14
  · rw [ifT c14, ifF (by rw [c14]; decide), ifF (by rw [c14]; decide), ifF (by rw [c14]; decide), ifF (by rw [c14]; decide), ifF (by rw [c14]; decide), ifF (by rw [c14]; decide), ifT c14]
    by_cases q : x = 0
    · rw [ifT ((nI_le0 (by omega)).mpr q), ifF (fun t => by omega)]
    · rw [ifF (fun t => q ((nI_le0 (by omega)).mp t)), ifT (by omega)]; rfl
  rw [ifF c14, ifF c14, ifF h17]
  simp only [ite_self]
theorem k_how17 (hk : mk M a = 18) (ha : a ≠ 0) (ho : mI M 3400 a = 17) (hv : mI M 3401 a = nI v) (hz : lf3 M a) (hu : u < 1000 ∧ v < 1000) (f : Nat) : KG_X0_howIn (f + 2) a (nI u) M = some (nI (if v = u then 1 else 0), M) := by
  show KB_X0_howIn (KG_X0_howIn (f + 1)) a (nI u) M = _
  unfold KB_X0_howIn
  rw [ifF ha, ifT hk, hz.1, k_how0, ob_some, ifT hk, hz.2.1, k_how0, ob_some, ifT hk, hz.2.2, k_how0, ob_some, ifT hk, ho]
  simp +decide only [↓reduceIte]
  rw [ifT hk, hv]
  by_cases q : v = u
  · rw [ifT q, ifT (by rw [q])]; rfl
  · rw [ifF q, ifF (fun t => q (nIq t (by omega) (by omega)))]; rfl
theorem t_leafU {sx : Int32} (h : LfK s n v sx) (hn : n < 70000) : F_leafUnknown (nI n) s = some (nI v, s) := by
  have iN : inb (nI n) 70000 := inb_nI' hn (by decide)
  have xn : ix (nI n) = n := ix_nI (by omega)
  unfold F_leafUnknown
  rcases h with ⟨a, v', b, ⟨-, c1⟩, ⟨w, w1, w2, w3⟩, c3, -⟩ | ⟨a, v', w', b, ⟨⟨-, c1⟩, ⟨w, w1, w2, w3⟩, c3, -⟩, d, e⟩ | ⟨a, b, c, -⟩
  · rw [ifT iN, xn, a, ifF (by decide), ifT iN, b, ifT (inb_nI' (by omega) (by decide)), ix_nI (by omega), w2, ifT (inb_nI' (by omega) (by decide)), ix_nI (by omega), w3, nm_eq, ifT iN, ifF (by decide)]
  · rw [ifT iN, xn, a, ifF (by decide), ifT iN, b, ifT (inb_nI' (by omega) (by decide)), ix_nI (by omega), w2, ifT (inb_nI' (by omega) (by decide)), ix_nI (by omega), w3, nm_eq, ifT iN, ifT rfl, ifT (inb_nI' (by omega) (by decide)), ix_nI (by omega), d]
  · rw [ifT iN, xn, a, ifT rfl, ifT iN, b]
def c01 (r : Nat) : Int32 := if 0 < r then 1 else 0
theorem c01_0 : c01 r = 0 ↔ r = 0 := by
  unfold c01
  by_cases z : 0 < r
  · rw [ifT z]; exact ⟨fun q => absurd q (by decide), fun q => by omega⟩
  · rw [ifF z]; exact ⟨fun _ => by omega, fun _ => rfl⟩
-- what the twin finds, by kinds
theorem t_con0 (hn : n < 70000) (e : tA s 121 n = 0 ∨ tA s 121 n = 1 ∨ tA s 121 n = 4 ∨ tA s 121 n = 24) (x2 : Int32) : B_contains ct (nI n) x2 s = some (c01 0, s) := by
  unfold B_contains
  rw [ifT (inb_nI' hn (by decide)), ix_nI (by omega), nm_eq]
  rcases e with e | e | e | e <;> rw [e] <;> simp +decide only [↓reduceIte] <;> rfl
theorem t_conV (hn : n < 70000) (e : tA s 121 n = 2) (e2 : tA s 122 n = nI v) (hv : v < 96) (hz : ¬ tA s 94 v = 0) (x2 : Int32) : B_contains ct (nI n) x2 s = some (c01 0, s) := by
  unfold B_contains
  rw [ifT (inb_nI' hn (by decide)), ix_nI (by omega), nm_eq, e]
  simp +decide only [↓reduceIte]
  rw [ifT (inb_nI' hn (by decide)), e2, ifT (inb_nI' (by omega) (by decide)), ix_nI (by omega), ifF hz]; rfl
theorem t_conL {sx : Int32} (hn : n < 70000) (l : LfK s n v sx) (hu : u < 1000) : B_contains ct (nI n) (nI u) s = some (c01 (if v = u then 1 else 0), s) := by
  have lu := t_leafU l hn
  have v180 := l.lt.1
  have cmp : (if nI v = nI u then some ((1 : Int32), s) else some (0, s)) = some (c01 (if v = u then 1 else 0), s) := by
    by_cases z : v = u
    · rw [ifT z, ifT (by rw [z])]; rfl
    · rw [ifF z, ifF (fun t => z (nIq t (by omega) (by omega)))]; rfl
  unfold B_contains
  rw [ifT (inb_nI' hn (by decide)), ix_nI (by omega), nm_eq]
  rcases l with ⟨e, v', b, c⟩ | ⟨e, -⟩ | ⟨e, -⟩
  · rw [e]
    simp +decide only [↓reduceIte]
    rw [ifT (inb_nI' hn (by decide)), b, ifT (inb_nI' c.1.2 (by decide)), ix_nI (by have := c.1.2; omega), ifT c.1.1, lu, ob_some, cmp]
  · rw [e]
    simp +decide only [↓reduceIte]
    rw [lu, ob_some, cmp]
  · rw [e]
    simp +decide only [↓reduceIte]
    rw [lu, ob_some, cmp]
theorem t_con1 (hn : n < 70000) (e : tA s 121 n ∈ k1T) (x2 : Int32) (e1 : ct (tA s 122 n) x2 s = some (c01 x, s)) : B_contains ct (nI n) x2 s = some (c01 x, s) := by
  have iN := inb_nI' hn (show 70000 ≤ 2147483648 by decide)
  unfold B_contains
  rw [ifT iN, ix_nI (by omega), nm_eq]
  simp only [List.mem_cons, List.not_mem_nil, or_false] at e
  rcases e with e | e | e | e | e | e <;> rw [e] <;> simp +decide only [↓reduceIte] <;> rw [ifT iN, e1, ob_some]
theorem c01_or (x y : Nat) (s : TS) (f : Option (Int32 × TS)) (h : f = some (c01 y, s)) : (if c01 x = 0 then (ob f fun r s' => if r = 0 then some ((0 : Int32), s') else some (1, s')) else some (1, s)) = some (c01 (x + y), s) := by
  by_cases q : x = 0
  · rw [ifT (c01_0.mpr q), h, ob_some]
    by_cases q2 : y = 0
    · rw [ifT (c01_0.mpr q2), q, q2]; rfl
    · rw [ifF (fun t => q2 (c01_0.mp t))]; unfold c01; rw [ifT (by omega)]
  · rw [ifF (fun t => q (c01_0.mp t))]; unfold c01; rw [ifT (by omega)]
theorem t_con2 (hn : n < 70000) (e : tA s 121 n ∈ k2T) (x2 : Int32) (e1 : ct (tA s 122 n) x2 s = some (c01 x, s)) (e2 : ct (tA s 123 n) x2 s = some (c01 y, s)) : B_contains ct (nI n) x2 s = some (c01 (x + y), s) := by
  have iN := inb_nI' hn (show 70000 ≤ 2147483648 by decide)
  unfold B_contains
  rw [ifT iN, ix_nI (by omega), nm_eq]
  simp only [List.mem_cons, List.not_mem_nil, or_false] at e
  rcases e with e | e | e | e | e | e | e | e <;> rw [e] <;> simp +decide only [↓reduceIte] <;> rw [ifT iN, e1, ob_some, ifT iN] <;> exact c01_or x y s _ e2
theorem t_con3 (hn : n < 70000) (e : tA s 121 n = 16) (x2 : Int32) (e1 : ct (tA s 122 n) x2 s = some (c01 x, s)) (e2 : ct (tA s 123 n) x2 s = some (c01 y, s)) (e3 : ct (tA s 124 n) x2 s = some (c01 z, s)) : B_contains ct (nI n) x2 s = some (c01 (x + y + z), s) := by
  have iN := inb_nI' hn (show 70000 ≤ 2147483648 by decide)
  unfold B_contains
  rw [ifT iN, ix_nI (by omega), nm_eq, e]
  simp +decide only [↓reduceIte]
  rw [ifT iN, e1, ob_some, ifT iN, e2, ob_some, ifT iN]
  by_cases q : x = 0
  · rw [ifT (c01_0.mpr q), c01_or y z s _ e3, q, Nat.zero_add]
  · rw [ifF (fun t => q (c01_0.mp t))]; unfold c01; rw [ifT (by omega)]
theorem t_con4 (hn : n < 70000) (e : tA s 121 n = 20 ∨ tA s 121 n = 25) (x2 : Int32) (e1 : ct (tA s 123 n) x2 s = some (c01 x, s)) (e2 : ct (tA s 124 n) x2 s = some (c01 y, s)) : B_contains ct (nI n) x2 s = some (c01 (x + y), s) := by
  have iN := inb_nI' hn (show 70000 ≤ 2147483648 by decide)
  unfold B_contains
  rw [ifT iN, ix_nI (by omega), nm_eq]
  rcases e with e | e <;> rw [e] <;> simp +decide only [↓reduceIte] <;> rw [ifT iN, e1, ob_some, ifT iN] <;> exact c01_or x y s _ e2
-- straight
def s01 (r : Nat) : Int32 := if r < 2 then 1 else 0
theorem s01_0 : s01 r = 0 ↔ ¬ r < 2 := by
  unfold s01
  by_cases z : r < 2
  · rw [ifT z]; exact ⟨fun q => absurd q (by decide), fun q => absurd z q⟩
  · rw [ifF z]; exact ⟨fun _ => z, fun _ => rfl⟩
theorem s01_and (x y : Nat) (hx : x ≤ 2 ∧ y ≤ 2) (s : TS) (f : Option (Int32 × TS)) (h : f = some (s01 y, s)) : (if s01 x = 0 then some ((0 : Int32), s) else (ob f fun r s' => if r = 0 then some ((0 : Int32), s') else some (1, s'))) = some (s01 (max x y), s) := by
  by_cases q : x < 2
  · rw [ifF (fun t => s01_0.mp t q), h, ob_some]
    by_cases q2 : y < 2
    · rw [ifF (fun t => s01_0.mp t q2)]; unfold s01; rw [ifT (by omega)]
    · rw [ifT (s01_0.mpr q2)]; unfold s01; rw [ifF (by omega)]
  · rw [ifT (s01_0.mpr q)]; unfold s01; rw [ifF (by omega)]
theorem s01_id (x : Nat) (s : TS) : (if s01 x = 0 then some ((0 : Int32), s) else some (1, s)) = some (s01 x, s) := by
  by_cases q : x < 2
  · rw [ifF (fun t => s01_0.mp t q)]; unfold s01; rw [ifT q]
  · rw [ifT (s01_0.mpr q)]; unfold s01; rw [ifF q]
/-- one that does not contain it -/
theorem t_st0 (c : F_contains (nI n) k s = some (c01 0, s)) : B_straight cs (nI n) k s = some (s01 0, s) := by
  unfold B_straight
  rw [c, ob_some, ifT (c01_0.mpr rfl)]; rfl
theorem t_st (hn : n < 70000) (c : F_contains (nI n) k s = some (c01 r, s)) (hr : r ≠ 0) : B_straight cs (nI n) k s = (if tA s 121 n = 2 then some (1, s) else if tA s 121 n = 3 then some (1, s) else if tA s 121 n = 4 then some (0, s) else if tA s 121 n = 5 then (ob (cs (tA s 122 n) k s) fun r12 s11 => if r12 = 0 then some (0, s11) else (ob (cs (tA s11 123 n) k s11) fun r s' => if r = 0 then some (0, s') else some (1, s'))) else if tA s 121 n = 6 then (ob (cs (tA s 122 n) k s) fun r12 s11 => if r12 = 0 then some (0, s11) else (ob (cs (tA s11 123 n) k s11) fun r s' => if r = 0 then some (0, s') else some (1, s'))) else if tA s 121 n = 7 then (ob (cs (tA s 122 n) k s) fun r s' => some (r, s')) else if tA s 121 n = 8 then (ob (F_contains (tA s 122 n) k s) fun r44 s43 => if r44 = 0 then (ob (cs (tA s43 123 n) k s43) fun r s' => some (r, s')) else (ob (F_contains (tA s43 123 n) k s43) fun r54 s53 => if r54 = 0 then (ob (cs (tA s53 122 n) k s53) fun r s' => if r = 0 then some (0, s') else some (1, s')) else some (0, s53))) else if tA s 121 n = 9 then (ob (F_contains (tA s 123 n) k s) fun r68 s67 => if r68 = 0 then (ob (cs (tA s67 122 n) k s67) fun r s' => if r = 0 then some (0, s') else some (1, s')) else some (0, s67)) else if tA s 121 n = 16 then (ob (F_contains (tA s 122 n) k s) fun r87 s86 => if r87 = 0 then (ob (cs (tA s86 123 n) k s86) fun r92 s91 => if r92 = 0 then some (0, s91) else (ob (cs (tA s91 124 n) k s91) fun r s' => if r = 0 then some (0, s') else some (1, s'))) else some (0, s86)) else if tA s 121 n = 30 then some (1, s) else some (0, s)) := by
  have iN := inb_nI' hn (show 70000 ≤ 2147483648 by decide)
  unfold B_straight
  rw [c, ob_some, ifF (fun t => hr (c01_0.mp t))]
  simp only [ifT iN, ix_nI (show n < 2147483648 by omega)]
  by_cases c30 : tA s 121 n = 30
  · simp +decide only [c30, ↓reduceIte]
  · by_cases c16 : tA s 121 n = 16
    · simp +decide only [c16, ↓reduceIte]
    · simp only [c30, c16, ↓reduceIte, ite_self]
end HOW
