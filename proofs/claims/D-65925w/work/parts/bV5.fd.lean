/-! Layer B: who is given to whom: the search, in plain terms -/
set_option maxRecDepth 100000
/-- given, seen unknowns, seen equations -/
abbrev Fs3 := (Nat → Int32) × (Nat → Int32) × (Nat → Int32)
def sA (f : Nat → Int32) (i : Nat) (v : Int32) : Nat → Int32 := fun j => if j = i then v else f j
def ixm (mode U k : Nat) : Nat := if mode = 1 then U - 1 - k else k
/-- the first that is free -/
def fd1 (U mode : Nat) (isn : Nat → Nat → Int32) (ct : Nat → Bool) (e : Nat) (g : Nat → Int32) : Nat → Option Nat
  | 0 => none
  | d + 1 => if isn e (ixm mode U (U - (d + 1))) = 0 ∨ ct (ixm mode U (U - (d + 1))) = false ∨ 0 ≤ g (ixm mode U (U - (d + 1))) then fd1 U mode isn ct e g d else some (ixm mode U (U - (d + 1)))
/-- the first whose equation finds another -/
def fd2 (U mode : Nat) (isn : Nat → Nat → Int32) (ct : Nat → Bool) (rc : Nat → Fs3 → Bool × Fs3) (e : Nat) : Nat → Fs3 → Bool × Fs3
  | 0, P => (false, P)
  | d + 1, P => if isn e (ixm mode U (U - (d + 1))) = 0 ∨ ct (ixm mode U (U - (d + 1))) = false ∨ ¬ P.2.1 (ixm mode U (U - (d + 1))) = 0 then fd2 U mode isn ct rc e d P
    else if (rc (ix (P.1 (ixm mode U (U - (d + 1))))) (P.1, sA P.2.1 (ixm mode U (U - (d + 1))) 1, P.2.2)).1 = true then (true, (sA (rc (ix (P.1 (ixm mode U (U - (d + 1))))) (P.1, sA P.2.1 (ixm mode U (U - (d + 1))) 1, P.2.2)).2.1 (ixm mode U (U - (d + 1))) (nI e), (rc (ix (P.1 (ixm mode U (U - (d + 1))))) (P.1, sA P.2.1 (ixm mode U (U - (d + 1))) 1, P.2.2)).2.2))
    else fd2 U mode isn ct rc e d (rc (ix (P.1 (ixm mode U (U - (d + 1))))) (P.1, sA P.2.1 (ixm mode U (U - (d + 1))) 1, P.2.2)).2
def fd (U mode : Nat) (isn : Nat → Nat → Int32) (ct : Nat → Bool) : Nat → Nat → Fs3 → Bool × Fs3
  | 0, _, P => (false, P)
  | f + 1, e, P => match fd1 U mode isn ct e P.1 U with
    | some u => (true, (sA P.1 u (nI e), P.2.1, sA P.2.2 e 1))
    | none => fd2 U mode isn ct (fd U mode isn ct f) e U (P.1, P.2.1, sA P.2.2 e 1)
/-- what is given is an equation -/
def Rg (U S : Nat) (g : Nat → Int32) : Prop := ∀ u, u < U → g u = -1 ∨ ∃ e, e < S ∧ g u = nI e
/-- unknowns not seen -/
def cz (f : Nat → Int32) : Nat → Nat
  | 0 => 0
  | n + 1 => cz f n + if f n = 0 then 1 else 0
section FIND
variable {U mode S d e f n u k : Nat} {isn : Nat → Nat → Int32} {ct : Nat → Bool} {g g' : Nat → Int32} {P P' : Fs3} {rc : Nat → Fs3 → Bool × Fs3} {v : Int32}
theorem sA_eq (f : Nat → Int32) (i : Nat) (v : Int32) : sA f i v i = v := if_pos rfl
theorem sA_ne (f : Nat → Int32) {i j : Nat} (v : Int32) (h : j ≠ i) : sA f i v j = f j := if_neg h
theorem ixm_lt (h : k < U) : ixm mode U k < U := by
  unfold ixm
  by_cases z : mode = 1
  · rw [ifT z]; omega
  · rw [ifF z]; exact h
theorem ixm_ex (h : u < U) : ∃ k, k < U ∧ ixm mode U k = u := by
  unfold ixm
  by_cases z : mode = 1
  · exact ⟨U - 1 - u, by omega, by rw [ifT z]; omega⟩
  · exact ⟨u, h, by rw [ifF z]⟩
theorem fd1_some : ∀ (d : Nat), d ≤ U → fd1 U mode isn ct e g d = some u → u < U ∧ ¬ isn e u = 0 ∧ ct u = true ∧ ¬ 0 ≤ g u
  | 0, _, h => by cases h
  | d + 1, hd, h => by
    unfold fd1 at h
    by_cases z : isn e (ixm mode U (U - (d + 1))) = 0 ∨ ct (ixm mode U (U - (d + 1))) = false ∨ 0 ≤ g (ixm mode U (U - (d + 1)))
    · rw [ifT z] at h
      exact fd1_some d (by omega) h
    · rw [ifF z] at h
      cases h
      exact ⟨ixm_lt (by omega), fun y => z (Or.inl y), by cases c : ct (ixm mode U (U - (d + 1))) with | true => rfl | false => exact absurd (Or.inr (Or.inl c)) z, fun y => z (Or.inr (Or.inr y))⟩
theorem fd1_none : ∀ (d : Nat), d ≤ U → fd1 U mode isn ct e g d = none → ∀ k, U - d ≤ k → k < U → isn e (ixm mode U k) = 0 ∨ ct (ixm mode U k) = false ∨ 0 ≤ g (ixm mode U k)
  | 0, _, _, k, h1, h2 => by omega
  | d + 1, hd, h, k, h1, h2 => by
    unfold fd1 at h
    by_cases z : isn e (ixm mode U (U - (d + 1))) = 0 ∨ ct (ixm mode U (U - (d + 1))) = false ∨ 0 ≤ g (ixm mode U (U - (d + 1)))
    · rw [ifT z] at h
      by_cases y : k = U - (d + 1)
      · rw [y]; exact z
      · exact fd1_none d (by omega) h k (by omega) h2
    · rw [ifF z] at h
      cases h
theorem fd1_no (h : fd1 U mode isn ct e g U = none) (hu : u < U) (h1 : ¬ isn e u = 0) (h2 : ct u = true) : 0 ≤ g u := by
  obtain ⟨k, k1, k2⟩ := ixm_ex (mode := mode) hu
  rcases fd1_none U (Nat.le_refl _) h k (by omega) k1 with z | z | z
  · rw [k2] at z; exact absurd z h1
  · rw [k2, h2] at z; cases z
  · rw [k2] at z; exact z
theorem Rg.nn (h : Rg U S g) (hu : u < U) (h0 : 0 ≤ g u) : ∃ e, e < S ∧ g u = nI e := by
  rcases h u hu with z | z
  · rw [z] at h0; exact absurd h0 (by decide)
  · exact z
theorem Rg.set (h : Rg U S g) (he : e < S) : Rg U S (sA g u (nI e)) := fun j hj => by
  by_cases z : j = u
  · rw [z, sA_eq]; exact Or.inr ⟨e, he, rfl⟩
  · rw [sA_ne g _ z]; exact h j hj
theorem cz_le (f : Nat → Int32) : ∀ n, cz f n ≤ n
  | 0 => Nat.le_refl _
  | n + 1 => by
    have := cz_le f n
    unfold cz
    split <;> omega
theorem cz_mono {f f' : Nat → Int32} (h : ∀ u, u < n → ¬ f u = 0 → ¬ f' u = 0) : cz f' n ≤ cz f n := by
  induction n with
  | zero => exact Nat.le_refl _
  | succ n ih =>
    have i := ih (fun u hu => h u (by omega))
    unfold cz
    by_cases z : f n = 0
    · rw [ifT z]; split <;> omega
    · rw [ifF z, ifF (h n (by omega) z)]; omega
theorem cz_set {f : Nat → Int32} (hu : u < n) (h0 : f u = 0) : cz (sA f u 1) n + 1 = cz f n := by
  induction n with
  | zero => omega
  | succ n ih =>
    unfold cz
    by_cases z : n = u
    · subst z
      have e : cz (sA f n 1) n = cz f n := by
        have h1 := cz_mono (n := n) (f := f) (f' := sA f n 1) (fun j hj y => by rw [sA_ne f _ (by omega)]; exact y)
        have h2 := cz_mono (n := n) (f := sA f n 1) (f' := f) (fun j hj y => by rw [sA_ne f _ (by omega)] at y; exact y)
        omega
      rw [sA_eq, ifF (by decide), ifT h0, e]
    · have i := ih (by omega)
      rw [sA_ne f _ z]; omega
/-- what a search does: marks stay; failing, all given stay -/
def FdO (U S : Nat) (P : Fs3) (r : Bool × Fs3) : Prop := Rg U S r.2.1 ∧ (∀ u, ¬ P.2.1 u = 0 → ¬ r.2.2.1 u = 0) ∧ (∀ u, ¬ P.2.2 u = 0 → ¬ r.2.2.2 u = 0) ∧ (r.1 = false → r.2.1 = P.1) ∧ ∀ u, u < U → ¬ r.2.2.1 u = 0 → ¬ P.2.1 u = 0 ∨ 0 ≤ P.1 u
theorem fd2_o (hS : S ≤ 180) (hrc : ∀ e P, e < S → Rg U S P.1 → FdO U S P (rc e P)) (he : e < S) : ∀ (d : Nat) (P : Fs3), d ≤ U → Rg U S P.1 → (∀ u, u < U → ¬ isn e u = 0 → ct u = true → 0 ≤ P.1 u) → FdO U S P (fd2 U mode isn ct rc e d P)
  | 0, P, _, h, _ => ⟨h, fun _ z => z, fun _ z => z, fun _ => rfl, fun _ _ z => Or.inl z⟩
  | d + 1, P, hd, h, hg => by
    have ih := fd2_o hS hrc he d
    unfold fd2
    have hk : ixm mode U (U - (d + 1)) < U := ixm_lt (by omega)
    obtain ⟨u, hu⟩ : ∃ u, u = ixm mode U (U - (d + 1)) := ⟨_, rfl⟩
    rw [← hu] at hk ⊢
    by_cases z : isn e u = 0 ∨ ct u = false ∨ ¬ P.2.1 u = 0
    · rw [ifT z]; exact ih P (by omega) h hg
    · rw [ifF z]
      have c1 : ct u = true := by cases c : ct u with | true => rfl | false => exact absurd (Or.inr (Or.inl c)) z
      have m0 : P.2.1 u = 0 := Classical.byContradiction (fun y => z (Or.inr (Or.inr y)))
      obtain ⟨e', e1, e2⟩ := h.nn hk (hg u hk (fun y => z (Or.inl y)) c1)
      obtain ⟨r, hr⟩ : ∃ r, r = rc (ix (P.1 u)) (P.1, sA P.2.1 u 1, P.2.2) := ⟨_, rfl⟩
      rw [← hr]
      have o : FdO U S (P.1, sA P.2.1 u 1, P.2.2) r := by
        rw [hr, e2, ix_nI (by omega)]; exact hrc e' _ e1 h
      obtain ⟨o1, o2, o3, o4, o5⟩ := o
      have nw : ∀ j, j < U → ¬ r.2.2.1 j = 0 → ¬ P.2.1 j = 0 ∨ 0 ≤ P.1 j := fun j hj y => by
        by_cases q : j = u
        · subst q; exact Or.inr (hg j hk (fun y => z (Or.inl y)) c1)
        · exact (o5 j hj y).imp (fun t => by
            have : sA P.2.1 u 1 j = P.2.1 j := sA_ne _ _ q
            rw [← this]; exact t) id
      have mk : ∀ j, ¬ P.2.1 j = 0 → ¬ r.2.2.1 j = 0 := fun j y => o2 j (by
        show ¬ sA P.2.1 u 1 j = 0
        by_cases q : j = u
        · rw [q, sA_eq]; decide
        · rw [sA_ne _ _ q]; exact y)
      by_cases q : r.1 = true
      · rw [ifT q]
        exact ⟨o1.set he, mk, o3, fun y => (by cases y), nw⟩
      · rw [ifF q]
        have q' : r.1 = false := by cases c : r.1 with | true => exact absurd c q | false => rfl
        have g1 : r.2.1 = P.1 := o4 q'
        obtain ⟨p1, p2, p3, p4, p5⟩ := ih r.2 (by omega) o1 (by rw [g1]; exact hg)
        exact ⟨p1, fun j y => p2 j (mk j y), fun j y => p3 j (o3 j y), fun y => (p4 y).trans g1, fun j hj y => (p5 j hj y).elim (fun t => nw j hj t) (fun t => Or.inr (by rw [← g1]; exact t))⟩
theorem fd_o (hS : S ≤ 180) : ∀ (f e : Nat) (P : Fs3), e < S → Rg U S P.1 → FdO U S P (fd U mode isn ct f e P)
  | 0, _, P, _, h => ⟨h, fun _ z => z, fun _ z => z, fun _ => rfl, fun _ _ z => Or.inl z⟩
  | f + 1, e, P, he, h => by
    have ih := fun e P => fd_o hS f e P
    have mkE : ∀ j, ¬ P.2.2 j = 0 → ¬ sA P.2.2 e 1 j = 0 := fun j y => by
      by_cases q : j = e
      · rw [q, sA_eq]; decide
      · rw [sA_ne _ _ q]; exact y
    unfold fd
    cases c : fd1 U mode isn ct e P.1 U with
    | some u => exact ⟨h.set he, fun _ z => z, mkE, fun y => (by cases y), fun _ _ z => Or.inl z⟩
    | none =>
      obtain ⟨p1, p2, p3, p4, p5⟩ := fd2_o (mode := mode) (isn := isn) (ct := ct) hS ih he U (P.1, P.2.1, sA P.2.2 e 1) (Nat.le_refl _) h (fun u hu => fd1_no c hu)
      exact ⟨p1, p2, fun j y => p3 j (mkE j y), p4, p5⟩
end FIND
