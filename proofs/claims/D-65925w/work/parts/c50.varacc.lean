/-! Layer B: the call variable -/
set_option maxRecDepth 100000
section VARACC
variable {C : PC} {P : Nat → Prop} {mss fss : List Nat} {D : FQ} {M M' : CM} {σ σ' s : TS} {B n V I Bm v : Nat} {z7 : Nat → Nat} {r x y : Int32}
/-- a call that reads; the twin may use its scratch -/
def AcO (M : CM) (σ : TS) (kr : Option (Int32 × CM)) (tq : Option (Int32 × TS)) : Prop := ∃ r σ', kr = some (r, M) ∧ tq = some (r, σ') ∧ Ft [6, 9, 176, 246, 247] σ σ' ∧ OuR M σ'
theorem AcO.st (o : OuR M σ) (r : Int32) : AcO M σ (some (r, M)) (some (r, σ)) := ⟨r, σ, rfl, rfl, Ft.rf _ _, o⟩
theorem AcO.if_ {c c' : Prop} [Decidable c] [Decidable c'] {k1 k2 : Option (Int32 × CM)} {t1 t2 : Option (Int32 × TS)} (e : c ↔ c') (h1 : c → AcO M σ k1 t1) (h2 : ¬ c → AcO M σ k2 t2) : AcO M σ (if c then k1 else k2) (if c' then t1 else t2) := by
  by_cases q : c
  · rw [ifT q, ifT (e.mp q)]; exact h1 q
  · rw [ifF q, ifF (fun z => q (e.mpr z))]; exact h2 q
theorem unT_at : ∀ a, a < 16 → ∀ b, b < 16 → ∀ c, c < 16 → (((nI (a + 32 * b + 1024 * c + 1048576)) >>> ((5 * ((1 : Int32) - 1)) &&& 31)) &&& 31) = nI a ∧ (((nI (a + 32 * b + 1024 * c + 1048576)) >>> ((5 * ((2 : Int32) - 1)) &&& 31)) &&& 31) = nI b ∧ (((nI (a + 32 * b + 1024 * c + 1048576)) >>> ((5 * ((3 : Int32) - 1)) &&& 31)) &&& 31) = nI c ∧ ¬ nI (a + 32 * b + 1024 * c + 1048576) = 0 := by decide +kernel
theorem t_isv (h107 : tI σ 107 = nI V) (hV : V ≤ 96) (x : Int32) : F_isVariable x σ = some (if x < 0 then 0 else if nI V ≤ x then 0 else 1, σ) := by
  unfold F_isVariable
  by_cases q : x < 0
  · rw [ifT q, ifT q]
  · rw [ifF q, ifF q, h107]
    by_cases q2 : nI V ≤ x
    · rw [ifT q2, ifT q2]
    · rw [ifF q2, ifF q2]
theorem z_variable (W : FW C B P mss fss D M σ) (X : FlY z7 C P D mss M σ V I Bm) (o : OuR M σ) (h : ¬ mI M 30 1 = 0 ∧ ¬ tI σ 108 = 0) (x y : Int32) : AcO M σ (K_X0_variable x y M) (F_variable x y σ) := by
  have h15 := X.2.2.2.1.1
  have h107 := X.2.2.1.1
  have V96 := X.2.1.1
  unfold K_X0_variable F_variable
  rw [ifF h.1, ifF h.2, h15, t_isv h107 V96, ob_some]
  by_cases q : x < 0
  · rw [ifT q, ifT q, ifT (rfl : (0 : Int32) = 0)]; exact AcO.st o _
  rw [ifF q, ifF q]
  obtain ⟨v, rfl, v2⟩ := bI_of (Int32.not_lt.mp q)
  by_cases q2 : nI v < nI V
  · have hv : v < V := (bI_lt v2 (by omega)).mp q2
    rw [ifT q2, ifF (Int32.not_le.mpr q2), ifF (by decide : ¬ (1 : Int32) = 0)]
    obtain ⟨⟨n, e, w, ⟨a1, a2, a3⟩, -⟩, -, ⟨k, k1, k2, k3⟩, ⟨vv, c1, c2⟩, c3, -⟩ := X.1.2.2.2 v hv
    obtain ⟨k17, -, l98, v96⟩ := X.vr W hv
    have gt : K_J2_get 98 (nI v) M = some ((pl D 98).getD v 0, M) := ls_get (W.2.1.1 98 (by decide)).1 l98
    obtain ⟨⟨d1, d2⟩, -⟩ := W.2.1.2.2.1 v l98
    have i96 : inb (nI v) 96 := inb_nI' v96 (by decide)
    have xv : ix (nI v) = v := ix_nI (by omega)
    have l99 := X.1.1.2.1
    have k14 : mk M ((pl D 99).getD n 0) = 14 := (W.2.1.2.1 99 (by decide) n (by omega)).1
    have m26 : mI M 2600 ((pl D 99).getD n 0) = nI n := (X.1.2.1 n a1).1
    have sh : ∀ j : Nat, j < 3 → ∀ y : Int32, y = nI (j + 1) → (if tA σ 95 v = 0 then (0 : Int32) else (((tA σ 95 v) >>> ((5 * (y - 1)) &&& 31)) &&& 31) - 8) = mA M (mR M 3204 ((pl D 98).getD v 0)) j := fun j hj y ey => by
      obtain ⟨g1, g2, g3⟩ := c1 j hj
      rw [g1, c2]
      unfold unT
      by_cases z : vv 0 = 8 ∧ vv 1 = 8 ∧ vv 2 = 8
      · rw [ifT z, ifT rfl]
        have : vv j = 8 := by
          have : j = 0 ∨ j = 1 ∨ j = 2 := by omega
          rcases this with rfl | rfl | rfl
          · exact z.1
          · exact z.2.1
          · exact z.2.2
        rw [this]; rfl
      · have b0 := c1 0 (by decide)
        have b1 := c1 1 (by decide)
        have b2 := c1 2 (by decide)
        obtain ⟨u1, u2, u3, u4⟩ := unT_at (vv 0) (by omega) (vv 1) (by omega) (vv 2) (by omega)
        rw [ifF z, ifF u4, ey]
        have : j = 0 ∨ j = 1 ∨ j = 2 := by omega
        rcases this with rfl | rfl | rfl
        · rw [show nI (0 + 1) = 1 from rfl, u1]
        · rw [show nI (1 + 1) = 2 from rfl, u2]
        · rw [show nI (2 + 1) = 3 from rfl, u3]
    by_cases y0 : y < 0
    · have ne : ∀ c : Int32, 0 ≤ c → ¬ y = c := fun c hc z => by rw [z] at y0; exact Int32.not_lt.mpr hc y0
      rw [ifT y0, ifF (ne 0 (by decide)), ifF (ne 1 (by decide)), ifF (ne 2 (by decide)), ifF (ne 3 (by decide)), ifF (ne 4 (by decide)), ifF (ne 5 (by decide)), ifF (ne 6 (by decide))]
      exact AcO.st o _
    rw [ifF y0]
    by_cases y6 : y ≤ 6
    · rw [ifT y6, gt, ob_some, ifT (Or.inr k17)]
      by_cases e0 : y = 0
      · rw [ifT e0, ifT e0, ifT k17, ifT i96, xv, k2, k3]; exact AcO.st o _
      rw [ifF e0, ifF e0]
      have dim : ∀ j : Nat, j < 3 → y = nI (j + 1) → AcO M σ (if mk M ((pl D 98).getD v 0) = 17 then if mk M (mR M 3204 ((pl D 98).getD v 0)) = 50 ∧ inb (y - 1) (ml M (mR M 3204 ((pl D 98).getD v 0))) then some (mA M (mR M 3204 ((pl D 98).getD v 0)) (ix (y - 1)), M) else none else none) (if inb (nI v) 96 then if tA σ 95 (ix (nI v)) = 0 then some (0, σ) else if inb (nI v) 96 then some ((((tA σ 95 (ix (nI v))) >>> ((5 * (y - 1)) &&& 31)) &&& 31) - 8, σ) else none else none) := fun j hj ey => by
        have s := sh j hj y ey
        have e1 : y - 1 = nI j := by rw [ey, nI_subL _ _ (by show 1 ≤ j + 1; omega)]; congr 1
        rw [ifT k17, ifT (show _ ∧ _ from ⟨d1, by rw [e1, d2]; exact inb_nI' hj (by decide)⟩), ifT i96, xv, e1, ix_nI (by omega)]
        rw [e1] at s
        by_cases z : tA σ 95 v = 0
        · rw [ifT z] at s
          rw [ifT z, ← s]; exact AcO.st o _
        · rw [ifF z] at s
          rw [ifF z, ifT i96, ← s]; exact AcO.st o _
      by_cases e1 : y = 1
      · rw [ifT e1, ifT e1]; exact dim 0 (by decide) e1
      rw [ifF e1, ifF e1]
      by_cases e2 : y = 2
      · rw [ifT e2, ifT e2]; exact dim 1 (by decide) e2
      rw [ifF e2, ifF e2]
      by_cases e3 : y = 3
      · rw [ifT e3, ifT e3]; exact dim 2 (by decide) e3
      rw [ifF e3, ifF e3]
      by_cases e4 : y = 4
      · obtain ⟨n0, n1, n2, n3, n4⟩ := id o
        obtain ⟨L, l1, l2, l3, -, l5⟩ := var_nm W X hv
        obtain ⟨s2, t1, t2, t3, t4, -⟩ := t_letters (σ := σ) (x := nI v) n1 n3 (fun i hi => (n4 i hi).1.2) l5 l1 l2
        rw [ifT e4, ifT e4, l3, ob_some, t1, ob_some]
        exact ⟨_, s2, rfl, rfl, t2, n0, n1, n2, t3, fun i hi => by rw [t4 i hi]; exact n4 i hi⟩
      rw [ifF e4, ifF e4]
      by_cases e5 : y = 5
      · rw [ifT e5, ifT e5, ifT k17, ifT i96, xv]
        rcases c3 with ⟨g1, g2⟩ | ⟨g1, g2⟩
        · rw [g1, g2, ifT rfl]; exact AcO.st o _
        · rw [g1, g2, ifF (by decide)]; exact AcO.st o _
      rw [ifF e5, ifF e5]
      have e6 : y = 6 := by
        obtain ⟨j, rfl, j2⟩ := bI_of (Int32.not_lt.mp y0)
        have hj := (bI_le (b := 6) j2 (by decide)).mp y6
        have n := fun c : Nat => fun hc : c < 2147483648 => (bI_eq (a := j) (b := c) j2 hc)
        have : j ≠ 0 ∧ j ≠ 1 ∧ j ≠ 2 ∧ j ≠ 3 ∧ j ≠ 4 ∧ j ≠ 5 := ⟨fun z => e0 ((n 0 (by decide)).mpr z), fun z => e1 ((n 1 (by decide)).mpr z), fun z => e2 ((n 2 (by decide)).mpr z), fun z => e3 ((n 3 (by decide)).mpr z), fun z => e4 ((n 4 (by decide)).mpr z), fun z => e5 ((n 5 (by decide)).mpr z)⟩
        rw [show j = 6 by omega]; rfl
      rw [ifT e6, ifT e6, ifT k17, a2, ifT k14, m26, ifT i96, xv, a3]
      exact AcO.st o _
    · have ne : ∀ c : Int32, c ≤ 6 → ¬ y = c := fun c hc z => y6 (by rw [z]; exact hc)
      rw [ifF y6, ifF (ne 0 (by decide)), ifF (ne 1 (by decide)), ifF (ne 2 (by decide)), ifF (ne 3 (by decide)), ifF (ne 4 (by decide)), ifF (ne 5 (by decide)), ifF (ne 6 (by decide))]
      exact AcO.st o _
  · rw [ifF q2, ifT (Int32.not_lt.mp q2), ifT (rfl : (0 : Int32) = 0)]; exact AcO.st o _
theorem z_variable_n (o : OuR M σ) (h : mI M 30 1 = 0 ∧ tI σ 108 = 0) (x y : Int32) : AcO M σ (K_X0_variable x y M) (F_variable x y σ) := by
  unfold K_X0_variable F_variable
  rw [ifT h.1, ifT h.2]; exact AcO.st o _
end VARACC
