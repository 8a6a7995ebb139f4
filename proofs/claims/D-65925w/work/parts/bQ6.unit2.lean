/-! Layer B: units: the twin's side, node by node -/
set_option maxRecDepth 100000
abbrev FJ : List Nat := [170, 171, 172, 173]
def uOp (op : Int32) (u w : UV) : UV := if op = 5 ∨ op = 6 then uAl u w else uMu (if op = 8 then 1 else -1) u w
def uSg : UV → UV
  | none => none
  | some _ => some none
def eHf (e : E3) : E3 := (e.1.tdiv 2, e.2.1.tdiv 2, e.2.2.tdiv 2)
abbrev eEv (e : E3) : Prop := e.1 - e.1.tdiv 2 * 2 = 0 ∧ e.2.1 - e.2.1.tdiv 2 * 2 = 0 ∧ e.2.2 - e.2.2.tdiv 2 * 2 = 0
def uSq : UV → UV
  | none => none
  | some none => some none
  | some (some e) => if eEv e then some (some (eHf e)) else none
def eVr (vv : Nat → Nat) : E3 := ((vv 0 : Int) - 8, (vv 1 : Int) - 8, (vv 2 : Int) - 8)
def eDr (e : E3) : E3 := (e.1, e.2.1 - 1, e.2.2)
/-- what the twin says of a node -/
def TU (σ0 : TS) (h n : Nat) (u : UV) : Prop := ∀ d s σ, 2 * h ≤ d → Ft FJ σ0 σ → tI σ 171 = nI s → s + h ≤ 60000 → ∃ σ', (G_chainUnit d).2 (nI n) σ = some (eUV u, σ') ∧ Ft FJ σ σ' ∧ tI σ' 171 = nI s ∧ ∀ j, j < s → tA σ' 170 j = tA σ 170 j
def arO (x : Int32) : Prop := x = 5 ∨ x = 6 ∨ x = 8 ∨ x = 9
/-- down a chain and up again -/
def TSp (σ0 : TS) (h n : Nat) (u : UV) : Prop := ∀ d s base σ, (arO (tA σ0 121 n) → 2 * h ≤ d + 2) → (¬ arO (tA σ0 121 n) → 2 * h ≤ d) → Ft FJ σ0 σ → tI σ 171 = nI s → base ≤ s → s + h ≤ 60000 → ∃ m σ', m ≤ h ∧ Ft FJ σ σ' ∧ tI σ' 171 = nI s ∧ (∀ j, j < s → tA σ' 170 j = tA σ 170 j) ∧ ∀ f g, h < f → (ob (L_chainUnit_7 (G_chainUnit d).2 f (nI base) (nI n) σ) fun q s14 => ob ((G_chainUnit d).2 q s14) fun r17 s16 => L_chainUnit_56 (G_chainUnit d).2 (g + m) (nI base) r17 s16) = L_chainUnit_56 (G_chainUnit d).2 g (nI base) (eUV u) σ'
section UNIT2
variable {σ σ' σ0 σ2 : TS} {a b : Int} {n m k h d s base f g x y w0 v : Nat} {e e2 : E3} {u w : UV} {S : Int} {op x2 : Int32} {vv : Nat → Nat} {cf : Int32 → TS → Option (Int64 × TS)} {rec : Int32 → Int64 → TS → Option (Int64 × TS)}
theorem bU.mono {b b' : Nat} (h : bU b e) (hb : b ≤ b') : bU b' e := by
  obtain ⟨⟨a1, a2⟩, ⟨b1, b2⟩, c1, c2⟩ := h
  exact ⟨⟨by omega, by omega⟩, ⟨by omega, by omega⟩, by omega, by omega⟩
theorem bV.mono {b b' : Nat} (h : bV b u) (hb : b ≤ b') : bV b' u := by
  cases u with
  | none => trivial
  | some u =>
    cases u with
    | none => trivial
    | some e => exact bU.mono h hb
theorem bU.ad {b b' : Nat} (hS : S = 1 ∨ S = -1) (h : bU b e) (g : bU b' e2) : bU (b + b') (eAd S e e2) := by
  obtain ⟨⟨a1, a2⟩, ⟨b1, b2⟩, c1, c2⟩ := h
  obtain ⟨⟨d1, d2⟩, ⟨e1, e2⟩, f1, f2⟩ := g
  unfold bU eAd
  rcases hS with rfl | rfl <;> exact ⟨⟨by simp only; omega, by simp only; omega⟩, ⟨by simp only; omega, by simp only; omega⟩, by simp only; omega, by simp only; omega⟩
theorem bU0 {b : Nat} : bU b (0, 0, 0) := ⟨⟨by simp only; omega, by simp only; omega⟩, ⟨by simp only; omega, by simp only; omega⟩, by simp only; omega, by simp only; omega⟩
theorem bV.mu {b b' : Nat} (hS : S = 1 ∨ S = -1) (h : bV b u) (g : bV b' w) : bV (b + b') (uMu S u w) := by
  cases u with
  | none => trivial
  | some u =>
    cases w with
    | none => trivial
    | some w =>
      cases u with
      | none =>
        cases w with
        | none => trivial
        | some b => exact bU.ad hS bU0 g
      | some a =>
        cases w with
        | none => exact bU.ad hS h bU0
        | some b => exact bU.ad hS h g
theorem bV.al {b b' : Nat} (h : bV b u) (g : bV b' w) : bV (b + b') (uAl u w) := by
  cases u with
  | none => trivial
  | some u =>
    cases w with
    | none => cases u <;> trivial
    | some w =>
      cases u with
      | none =>
        cases w with
        | none => trivial
        | some b => exact bU.mono g (Nat.le_add_left _ _)
      | some a =>
        cases w with
        | none => exact bU.mono h (Nat.le_add_right _ _)
        | some b =>
          show bV _ (if a = b then some (some a) else none)
          by_cases q : a = b
          · rw [ifT q]; exact bU.mono h (Nat.le_add_right _ _)
          · rw [ifF q]; trivial
theorem bV.oper {b b' : Nat} (h : bV b u) (g : bV b' w) : bV (b + b') (uOp op u w) := by
  unfold uOp
  by_cases q : op = 5 ∨ op = 6
  · rw [ifT q]; exact h.al g
  · rw [ifF q]
    exact bV.mu (by by_cases z : op = 8; rw [ifT z]; exact Or.inl rfl; rw [ifF z]; exact Or.inr rfl) h g
theorem t_mul1 (hS : S = 1 ∨ S = -1) (h : bU 100000 e) (g : bU 100000 e2) : J_chainUnit_225_56 cf rec x2 (pU e) (pU e2) (iI S) σ = rec x2 (pU (eAd S e e2)) σ := by
  obtain ⟨a1, a2, a3⟩ := t_pt (σ := σ) (h.mono (by decide : 100000 ≤ 400000))
  obtain ⟨b1, b2, b3⟩ := t_pt (σ := σ) (g.mono (by decide : 100000 ≤ 400000))
  unfold J_chainUnit_225_56
  rw [a1, ob_some, b1, ob_some, a2, ob_some, b2, ob_some, a3, ob_some, b3, ob_some, iI_mul, iI_mul, iI_mul, iI_add, iI_add, iI_add]
  have := t_uf (σ := σ) (e := eAd S e e2) ((bU.ad hS h g).mono (by decide))
  rw [show F_unitFrom (iI (e.1 + S * e2.1)) (iI (e.2.1 + S * e2.2.1)) (iI (e.2.2 + S * e2.2.2)) σ = _ from this, ob_some]
theorem iI1 : iI 1 = (1 : Int32) := by decide
theorem iIm1 : iI (-1) = (-1 : Int32) := by decide
theorem t_uf0 : F_unitFrom 0 0 0 σ = some (pU (0, 0, 0), σ) := t_uf (e := (0, 0, 0)) bU0
theorem t_mul (hop : op = 8 ∨ op = 9) (h : bV 100000 u) (g : bV 100000 w) (hu : u ≠ none) (hw : w ≠ none) (hn : ¬ (u = some none ∧ w = some none)) : J_chainUnit_169_56 cf rec x2 (eUV u) (eUV w) op σ = rec x2 (eUV (uMu (if op = 8 then 1 else -1) u w)) σ := by
  have fin : ∀ e e2, bU 100000 e → bU 100000 e2 → J_chainUnit_211_56 cf rec x2 op (pU e) (pU e2) σ = rec x2 (pU (eAd (if op = 8 then 1 else -1) e e2)) σ := fun e e2 h g => by
    unfold J_chainUnit_211_56
    rcases hop with rfl | rfl
    · have t := t_mul1 (cf := cf) (rec := rec) (x2 := x2) (σ := σ) (S := 1) (Or.inl rfl) h g
      rw [iI1] at t
      rw [ifT rfl, ifT rfl]; exact t
    · have t := t_mul1 (cf := cf) (rec := rec) (x2 := x2) (σ := σ) (S := -1) (Or.inr rfl) h g
      rw [iIm1] at t
      rw [ifF (show ¬ (9 : Int32) = 8 by decide), ifF (show ¬ (9 : Int32) = 8 by decide)]; exact t
  cases u with
  | none => exact absurd rfl hu
  | some u =>
    cases w with
    | none => exact absurd rfl hw
    | some w =>
      unfold J_chainUnit_169_56 J_chainUnit_189_56
      cases u with
      | none =>
        cases w with
        | none => exact absurd ⟨rfl, rfl⟩ hn
        | some b =>
          rw [ifT ((e_any (h.mono (by decide))).mpr rfl), t_uf0, ob_some, ifF (fun z => by cases (e_any (g.mono (by decide))).mp z)]
          exact fin _ _ bU0 g
      | some a =>
        rw [ifF (fun z => by cases (e_any (h.mono (by decide))).mp z)]
        cases w with
        | none =>
          rw [ifT ((e_any (g.mono (by decide))).mpr rfl), t_uf0, ob_some]
          exact fin _ _ h bU0
        | some b =>
          rw [ifF (fun z => by cases (e_any (g.mono (by decide))).mp z)]
          exact fin _ _ h g
/-- one step up the chain -/
theorem t_up (h : bV 100000 u) (g' : bV 100000 w) (h1 : tI σ 171 = nI (s + 1)) (hs : s < 70000) (hb : base ≤ s) (ht : tA σ 170 s = nI n) (hn : n < 70000) (h3 : tA σ 123 n = nI y) (hop : arO (tA σ 121 n)) (hf : Ft FJ (tsI σ 171 (nI s)) σ2) (hc : cf (nI y) (tsI σ 171 (nI s)) = some (eUV w, σ2)) : L_chainUnit_56 cf (g + 1) (nI base) (eUV u) σ = L_chainUnit_56 cf g (nI base) (eUV (uOp (tA σ 121 n) u w)) σ2 := by
  have e1 : tI σ 171 - 1 = nI s := by rw [h1, nI_subL _ _ (by omega)]; rfl
  have i1 : inb (nI s) 70000 := inb_nI' hs (by decide)
  have in1 : inb (nI n) 70000 := inb_nI' hn (by decide)
  have x1 : tI (tsI σ 171 (nI s)) 171 = nI s := rfl
  have x2' : tA (tsI σ 171 (nI s)) 170 s = nI n := ht
  have x3 : tA (tsI σ 171 (nI s)) 123 n = nI y := h3
  have x4 : tA σ2 121 n = tA σ 121 n := (hf 121 rfl).2.2.1 n
  have al := t_alike (σ := σ2) (h.mono (by decide : 100000 ≤ 400000)) (g'.mono (by decide : 100000 ≤ 400000))
  rw [L_chainUnit_56, ifF (fun z => by rw [h1] at z; have := (bI_le (by omega) (by omega)).mp z; omega), e1, nm_eq, x1, ifT i1, ix_nI (by omega), x2', nm_eq, ifT in1, ix_nI (by omega), x3, hc, ob_some, ifT in1, x4, nm_eq]
  generalize tA σ 121 n = op at *
  unfold uOp
  rcases hop with rfl | rfl | hop
  · rw [ifT rfl, al, ob_some, ifT (Or.inl rfl)]
  · rw [ifF (by decide), ifT rfl, al, ob_some, ifT (Or.inr rfl)]
  · have n5 : ¬ (op = 5 ∨ op = 6) := by rcases hop with rfl | rfl <;> decide
    rw [ifF (fun z => n5 (Or.inl z)), ifF (fun z => n5 (Or.inr z)), ifF n5, al]
    by_cases q1 : u = none
    · rw [ifT ((e_un (h.mono (by decide))).mpr q1), ob_some]
      subst q1
      cases w <;> rfl
    · rw [ifF (fun z => q1 ((e_un (h.mono (by decide))).mp z))]
      by_cases q2 : w = none
      · rw [ifT ((e_un (g'.mono (by decide))).mpr q2), ob_some]
        subst q2
        cases u with
        | none => rfl
        | some u => cases u <;> rfl
      · rw [ifF (fun z => q2 ((e_un (g'.mono (by decide))).mp z))]
        by_cases q3 : u = some none ∧ w = some none
        · rw [ifT ((e_any (h.mono (by decide))).mpr q3.1), ifT ((e_any (g'.mono (by decide))).mpr q3.2), q3.1, q3.2]; rfl
        · have tm := t_mul (cf := cf) (rec := L_chainUnit_56 cf g) (x2 := nI base) (σ := σ2) hop h g' q1 q2 q3
          by_cases q4 : u = some none
          · rw [ifT ((e_any (h.mono (by decide))).mpr q4), ifF (fun z => q3 ⟨q4, (e_any (g'.mono (by decide))).mp z⟩)]
            exact tm
          · rw [ifF (fun z => q4 ((e_any (h.mono (by decide))).mp z))]
            exact tm
end UNIT2
