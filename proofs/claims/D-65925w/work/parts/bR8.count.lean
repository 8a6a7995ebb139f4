/-! Layer B: how many below a bound -/
set_option maxRecDepth 100000
def cnB (p : Nat → Bool) : Nat → Nat
  | 0 => 0
  | n + 1 => cnB p n + if p n = true then 1 else 0
/-- unknowns that have no derivative -/
def hcU (s : TS) (U : Nat) : Nat := cnB (fun u => decide (tA s 189 u = -1)) U
/-- equations that stay and have no derivative -/
def udc (s : TS) (S : Nat) : Nat := cnB (fun e => decide (tA s 180 e = 0 ∧ tA s 194 e = -1)) S
section COUNT
variable {p q : Nat → Bool} {n i : Nat} {s s' : TS}
theorem cnB_eq (h : ∀ u, u < n → q u = p u) : cnB q n = cnB p n := by
  induction n with
  | zero => rfl
  | succ n ih => unfold cnB; rw [ih (fun u hu => h u (by omega)), h n (by omega)]
theorem cnB_flip (h : ∀ u, u < n → u ≠ i → q u = p u) (hi : i < n) (h1 : p i = true) (h2 : q i = false) : cnB q n + 1 = cnB p n := by
  induction n with
  | zero => omega
  | succ n ih =>
    unfold cnB
    by_cases z : n = i
    · subst z
      rw [cnB_eq (fun u hu => h u (by omega) (by omega)), h1, h2, ifF (by decide), ifT rfl]
    · have := ih (fun u hu a => h u (by omega) a) (by omega)
      rw [h n (by omega) z]; omega
theorem cnB_le (p : Nat → Bool) : ∀ n, cnB p n ≤ n
  | 0 => Nat.le_refl _
  | n + 1 => by
    have := cnB_le p n
    unfold cnB; split <;> omega
theorem cnB_mono (h : ∀ u, u < n → p u = true → q u = true) : cnB p n ≤ cnB q n := by
  induction n with
  | zero => exact Nat.le_refl _
  | succ n ih =>
    have i := ih (fun u hu => h u (by omega))
    unfold cnB
    by_cases z : p n = true
    · rw [ifT z, ifT (h n (by omega) z)]; omega
    · rw [ifF z]; split <;> omega
/-- as many, and no more: the same -/
theorem cnB_all (h : ∀ u, u < n → p u = true → q u = true) (e : cnB q n ≤ cnB p n) : ∀ u, u < n → q u = true → p u = true := by
  induction n with
  | zero => intro u hu; omega
  | succ n ih =>
    have m := cnB_mono (fun u hu => h u (Nat.lt_succ_of_lt hu))
    unfold cnB at e
    intro u hu z
    by_cases y : p n = true
    · rw [ifT y, ifT (h n (by omega) y)] at e
      by_cases r : u = n
      · rw [r]; exact y
      · exact ih (fun u hu => h u (by omega)) (by omega) u (by omega) z
    · rw [ifF y] at e
      by_cases y2 : q n = true
      · rw [ifT y2] at e; omega
      · rw [ifF y2] at e
        have r : u ≠ n := fun r => y2 (by rw [← r]; exact z)
        exact ih (fun u hu => h u (by omega)) (by omega) u (by omega) z
theorem cnB_add (p q : Nat → Bool) (h : ∀ u, u < n → ¬ (p u = true ∧ q u = true)) : cnB (fun u => p u || q u) n = cnB p n + cnB q n := by
  induction n with
  | zero => rfl
  | succ n ih =>
    have i := ih (fun u hu => h u (by omega))
    have hn := h n (by omega)
    unfold cnB
    rw [i]
    by_cases a : p n = true
    · have b : ¬ q n = true := fun b => hn ⟨a, b⟩
      rw [ifT (show (p n || q n) = true by rw [a]; rfl), ifT a, ifF b]; omega
    · have a' : p n = false := by cases c : p n with | true => exact absurd c a | false => rfl
      rw [a', Bool.false_or, ifF (show ¬ (false = true) by decide)]
      omega
end COUNT
