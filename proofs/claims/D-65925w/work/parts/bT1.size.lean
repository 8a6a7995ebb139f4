/-! Layer B: the twin measures a tree; which unknowns stand in it -/
set_option maxRecDepth 100000
/-- an unknown that stands in a tree -/
def OcU (s : TS) : Nat → Nat → Nat → Prop
  | 0, _, _ => False
  | h + 1, n, u => (∃ x, LfK s n u x) ∨ (tA s 121 n ∈ k1T ∧ OcU s h (ix (tA s 122 n)) u) ∨ (tA s 121 n ∈ k2T ∧ (OcU s h (ix (tA s 122 n)) u ∨ OcU s h (ix (tA s 123 n)) u)) ∨ (tA s 121 n = 16 ∧ (OcU s h (ix (tA s 122 n)) u ∨ OcU s h (ix (tA s 123 n)) u ∨ OcU s h (ix (tA s 124 n)) u)) ∨ ((tA s 121 n = 20 ∨ tA s 121 n = 25) ∧ (OcU s h (ix (tA s 123 n)) u ∨ OcU s h (ix (tA s 124 n)) u))
section SIZE
variable {s s' s1 s2 σ : TS} {S : List Nat} {N N' K h h' st n m u v w x y z f : Nat} {sx op : Int32} {cs : Int32 → TS → Option (Int64 × TS)} {ch : Int32 → TS → Option (Int32 × TS)} {cu : Int32 → TS → Option (Unit × TS)}
theorem n64_one (k : Nat) : (1 : Int64) + n64 k = n64 (1 + k) := n64_add 1 k
theorem t_ps (h7 : N ≤ 70000) : ∀ (h f st n : Nat), h < f → TwT s N h st n → G_printedSize f (nI n) s = some (n64 (PS s h n), s)
  | 0, _, _, _, _, q => q.elim
  | h + 1, 0, _, _, hf, _ => absurd hf (Nat.not_lt_zero _)
  | h + 1, f + 1, st, n, hf, q => by
    have ih := fun st x q => t_ps h7 h f st x (by omega) q
    have nb := q.nb
    have inn : inb (nI n) 70000 := inb_nI' (by omega) (by decide)
    have xn : ix (nI n) = n := ix_nI (by omega)
    show B_printedSize (G_printedSize f) (nI n) s = _
    rcases q.view with q | ⟨q, v, v1, v2⟩ | q | ⟨q, x, x1, x2⟩ | ⟨q, ⟨x, x1, x2⟩, y, y1, y2⟩ | ⟨q, ⟨x, x1, x2⟩, ⟨y, y1, y2⟩, z, z1, z2⟩ | ⟨q, ⟨y, y1, y2⟩, z, z1, z2⟩
    · have q' : tA s 121 n ∈ ([0, 1, 24, 30] : List Int32) := by
        simp only [List.mem_cons, List.not_mem_nil, or_false] at q
        rcases q with q | q | q <;> rw [q] <;> decide
      rw [(PS_0 (h := h) q').1]
      simp only [List.mem_cons, List.not_mem_nil, or_false] at q
      unfold B_printedSize
      rw [xn]
      rcases q with q | q | q <;> rw [q] <;> simp +decide only [↓reduceIte, ifT inn, nm_eq] <;> rfl
    · have iv : inb (nI v) 96 := inb_nI' v1 (by decide)
      have xv : ix (nI v) = v := ix_nI (by omega)
      rw [(PS_v (h := h) q).1]
      have en : ngv s n ↔ (tA s 94 v = 0 ∧ ¬ 0 ≤ tA s 178 v) := by unfold ngv; rw [v2, xv]
      simp only [List.mem_cons, List.not_mem_nil, or_false] at q
      by_cases z1 : tA s 94 v = 0
      · by_cases z2 : 0 ≤ tA s 178 v
        · rw [ifF (fun z => (en.mp z).2 z2)]
          unfold B_printedSize
          rw [xn, v2, xv]
          rcases q with q | q | q <;> rw [q] <;> simp +decide only [↓reduceIte, ifT inn, nm_eq, ifT iv, ifT z1, ifT z2] <;> rfl
        · rw [ifT (en.mpr ⟨z1, z2⟩)]
          unfold B_printedSize
          rw [xn, v2, xv]
          rcases q with q | q | q <;> rw [q] <;> simp +decide only [↓reduceIte, ifT inn, nm_eq, ifT iv, ifT z1, ifF z2] <;> rfl
      · rw [ifF (fun z => z1 (en.mp z).1)]
        unfold B_printedSize
        rw [xn, v2, xv]
        rcases q with q | q | q <;> rw [q] <;> simp +decide only [↓reduceIte, ifT inn, nm_eq, ifT iv, ifF z1] <;> rfl
    · have q' : tA s 121 n ∈ ([0, 1, 24, 30] : List Int32) := by rw [q]; decide
      rw [(PS_0 (h := h) q').1]
      unfold B_printedSize
      rw [xn, q]
      simp +decide only [↓reduceIte, ifT inn, nm_eq]
      rfl
    · have x3 : ix (nI x) = x := ix_nI (by have := x2.nb; omega)
      rw [(PS_1 (h := h) q).1, x1, x3, ← n64_one]
      simp only [List.mem_cons, List.not_mem_nil, or_false] at q
      unfold B_printedSize
      rw [xn, x1]
      rcases q with q | q | q | q | q | q <;> rw [q] <;> simp +decide only [↓reduceIte, ifT inn, nm_eq, ih _ _ x2, ob_some]
    · have x3 : ix (nI x) = x := ix_nI (by have := x2.nb; omega)
      have y3 : ix (nI y) = y := ix_nI (by have := y2.nb; omega)
      rw [(PS_2 (h := h) q).1, x1, x3, y1, y3, ← n64_add, ← n64_one]
      simp only [List.mem_cons, List.not_mem_nil, or_false] at q
      unfold B_printedSize
      rw [xn, x1]
      rcases q with q | q | q | q | q | q | q | q <;> rw [q] <;> simp +decide only [↓reduceIte, ifT inn, nm_eq, ih _ _ x2, ob_some, y1, ih _ _ y2]
    · have x3 : ix (nI x) = x := ix_nI (by have := x2.nb; omega)
      have y3 : ix (nI y) = y := ix_nI (by have := y2.nb; omega)
      have z3 : ix (nI z) = z := ix_nI (by have := z2.nb; omega)
      rw [(PS_3 (h := h) q).1, x1, x3, y1, y3, z1, z3, ← n64_add, ← n64_add, ← n64_one]
      unfold B_printedSize
      rw [xn, x1, q]
      simp +decide only [↓reduceIte, ifT inn, nm_eq, ih _ _ x2, ob_some, y1, ih _ _ y2, z1, ih _ _ z2]
    · have y3 : ix (nI y) = y := ix_nI (by have := y2.nb; omega)
      have z3 : ix (nI z) = z := ix_nI (by have := z2.nb; omega)
      rw [(PS_4 (h := h) q).1, y1, y3, z1, z3, ← n64_add, ← n64_one]
      unfold B_printedSize
      rw [xn]
      rcases q with q | q <;> rw [q] <;> simp +decide only [↓reduceIte, ifT inn, nm_eq, ob_some, y1, ih _ _ y2, z1, ih _ _ z2]
theorem TwT.ph (h7 : N ≤ 70000) : ∀ (h st n : Nat), TwT s N h st n → 1 ≤ PH s h n ∧ PH s h n ≤ h + 1 ∧ 1 ≤ PS s h n
  | 0, _, _, q => q.elim
  | h + 1, st, n, q => by
    have ih := fun st x q => TwT.ph h7 h st x q
    rcases q.view with q | ⟨q, v, v1, v2⟩ | q | ⟨q, x, x1, x2⟩ | ⟨q, ⟨x, x1, x2⟩, y, y1, y2⟩ | ⟨q, ⟨x, x1, x2⟩, ⟨y, y1, y2⟩, z, z1, z2⟩ | ⟨q, ⟨y, y1, y2⟩, z, z1, z2⟩
    · have q' : tA s 121 n ∈ ([0, 1, 24, 30] : List Int32) := by
        simp only [List.mem_cons, List.not_mem_nil, or_false] at q
        rcases q with q | q | q <;> rw [q] <;> decide
      rw [(PS_0 (h := h) q').1, (PS_0 (h := h) q').2]; omega
    · rw [(PS_v (h := h) q).1, (PS_v (h := h) q).2]
      split <;> omega
    · have q' : tA s 121 n ∈ ([0, 1, 24, 30] : List Int32) := by rw [q]; decide
      rw [(PS_0 (h := h) q').1, (PS_0 (h := h) q').2]; omega
    · have x3 : ix (nI x) = x := ix_nI (by have := x2.nb; omega)
      have := ih _ _ x2
      rw [(PS_1 (h := h) q).1, (PS_1 (h := h) q).2, x1, x3, hgt_eq]; omega
    · have x3 : ix (nI x) = x := ix_nI (by have := x2.nb; omega)
      have y3 : ix (nI y) = y := ix_nI (by have := y2.nb; omega)
      have := ih _ _ x2
      have := ih _ _ y2
      rw [(PS_2 (h := h) q).1, (PS_2 (h := h) q).2, x1, x3, y1, y3, hgt_eq]; omega
    · have x3 : ix (nI x) = x := ix_nI (by have := x2.nb; omega)
      have y3 : ix (nI y) = y := ix_nI (by have := y2.nb; omega)
      have z3 : ix (nI z) = z := ix_nI (by have := z2.nb; omega)
      have := ih _ _ x2
      have := ih _ _ y2
      have := ih _ _ z2
      rw [(PS_3 (h := h) q).1, (PS_3 (h := h) q).2, x1, x3, y1, y3, z1, z3, hgt_eq]; omega
    · have y3 : ix (nI y) = y := ix_nI (by have := y2.nb; omega)
      have z3 : ix (nI z) = z := ix_nI (by have := z2.nb; omega)
      have := ih _ _ y2
      have := ih _ _ z2
      rw [(PS_4 (h := h) q).1, (PS_4 (h := h) q).2, y1, y3, z1, z3, hgt_eq]; omega
theorem hI1 {a : Nat} (h1 : 1 ≤ a ∧ a < 100000) : (1 : Int32) + nI a = nI (hgt a 0 0) := by
  rw [hgt_eq, nI_Ladd]; congr 1
  show 1 + a = _; omega
theorem hI2 {a b : Nat} (h1 : 1 ≤ a ∧ a < 100000) (h2 : 1 ≤ b ∧ b < 100000) : (1 : Int32) + mmax (nI a) (nI b) = nI (hgt a b 0) := by
  rw [mmax_nI (by omega) (by omega), mx_max, hgt_eq, nI_Ladd]; congr 1
  show 1 + max a b = _; omega
theorem hI3 {a b c : Nat} (h1 : 1 ≤ a ∧ a < 100000) (h2 : 1 ≤ b ∧ b < 100000) (h3 : 1 ≤ c ∧ c < 100000) : (1 : Int32) + mmax (nI a) (mmax (nI b) (nI c)) = nI (hgt a b c) := by
  rw [mmax_nI (by omega) (by omega), mmax_nI (by omega) (by rw [mx_max]; omega), mx_max, mx_max, hgt_eq, nI_Ladd]; congr 1
  show 1 + max a (max b c) = _; omega
theorem t_ph (h7 : N ≤ 70000) : ∀ (h f st n : Nat), h < f → h < 10000 → TwT s N h st n → G_printedHeight f (nI n) s = some (nI (PH s h n), s)
  | 0, _, _, _, _, _, q => q.elim
  | h + 1, 0, _, _, hf, _, _ => absurd hf (Nat.not_lt_zero _)
  | h + 1, f + 1, st, n, hf, hh, q => by
    have ih := fun st x q => t_ph h7 h f st x (by omega) (by omega) q
    have bd := fun {st x} (q : TwT s N h st x) => TwT.ph h7 h st x q
    have bd' : ∀ {st x}, TwT s N h st x → 1 ≤ PH s h x ∧ PH s h x < 100000 := fun q => ⟨(bd q).1, by have := (bd q).2.1; omega⟩
    have nb := q.nb
    have inn : inb (nI n) 70000 := inb_nI' (by omega) (by decide)
    have xn : ix (nI n) = n := ix_nI (by omega)
    show B_printedHeight (G_printedHeight f) (nI n) s = _
    rcases q.view with q | ⟨q, v, v1, v2⟩ | q | ⟨q, x, x1, x2⟩ | ⟨q, ⟨x, x1, x2⟩, y, y1, y2⟩ | ⟨q, ⟨x, x1, x2⟩, ⟨y, y1, y2⟩, z, z1, z2⟩ | ⟨q, ⟨y, y1, y2⟩, z, z1, z2⟩
    · have q' : tA s 121 n ∈ ([0, 1, 24, 30] : List Int32) := by
        simp only [List.mem_cons, List.not_mem_nil, or_false] at q
        rcases q with q | q | q <;> rw [q] <;> decide
      rw [(PS_0 (h := h) q').2]
      simp only [List.mem_cons, List.not_mem_nil, or_false] at q
      unfold B_printedHeight
      rw [xn]
      rcases q with q | q | q <;> rw [q] <;> simp +decide only [↓reduceIte, ifT inn, nm_eq] <;> rfl
    · have iv : inb (nI v) 96 := inb_nI' v1 (by decide)
      have xv : ix (nI v) = v := ix_nI (by omega)
      rw [(PS_v (h := h) q).2]
      have en : ngv s n ↔ (tA s 94 v = 0 ∧ ¬ 0 ≤ tA s 178 v) := by unfold ngv; rw [v2, xv]
      simp only [List.mem_cons, List.not_mem_nil, or_false] at q
      by_cases z1 : tA s 94 v = 0
      · by_cases z2 : 0 ≤ tA s 178 v
        · rw [ifF (fun z => (en.mp z).2 z2)]
          unfold B_printedHeight
          rw [xn, v2, xv]
          rcases q with q | q | q <;> rw [q] <;> simp +decide only [↓reduceIte, ifT inn, nm_eq, ifT iv, ifT z1, ifT z2] <;> rfl
        · rw [ifT (en.mpr ⟨z1, z2⟩)]
          unfold B_printedHeight
          rw [xn, v2, xv]
          rcases q with q | q | q <;> rw [q] <;> simp +decide only [↓reduceIte, ifT inn, nm_eq, ifT iv, ifT z1, ifF z2] <;> rfl
      · rw [ifF (fun z => z1 (en.mp z).1)]
        unfold B_printedHeight
        rw [xn, v2, xv]
        rcases q with q | q | q <;> rw [q] <;> simp +decide only [↓reduceIte, ifT inn, nm_eq, ifT iv, ifF z1] <;> rfl
    · have q' : tA s 121 n ∈ ([0, 1, 24, 30] : List Int32) := by rw [q]; decide
      rw [(PS_0 (h := h) q').2]
      unfold B_printedHeight
      rw [xn, q]
      simp +decide only [↓reduceIte, ifT inn, nm_eq]
      rfl
    · have x3 : ix (nI x) = x := ix_nI (by have := x2.nb; omega)
      rw [(PS_1 (h := h) q).2, x1, x3, ← hI1 (bd' x2)]
      simp only [List.mem_cons, List.not_mem_nil, or_false] at q
      unfold B_printedHeight
      rw [xn, x1]
      rcases q with q | q | q | q | q | q <;> rw [q] <;> simp +decide only [↓reduceIte, ifT inn, nm_eq, ih _ _ x2, ob_some]
    · have x3 : ix (nI x) = x := ix_nI (by have := x2.nb; omega)
      have y3 : ix (nI y) = y := ix_nI (by have := y2.nb; omega)
      rw [(PS_2 (h := h) q).2, x1, x3, y1, y3, ← hI2 (bd' x2) (bd' y2)]
      simp only [List.mem_cons, List.not_mem_nil, or_false] at q
      unfold B_printedHeight
      rw [xn, x1]
      rcases q with q | q | q | q | q | q | q | q <;> rw [q] <;> simp +decide only [↓reduceIte, ifT inn, nm_eq, ih _ _ x2, ob_some, y1, ih _ _ y2]
    · have x3 : ix (nI x) = x := ix_nI (by have := x2.nb; omega)
      have y3 : ix (nI y) = y := ix_nI (by have := y2.nb; omega)
      have z3 : ix (nI z) = z := ix_nI (by have := z2.nb; omega)
      rw [(PS_3 (h := h) q).2, x1, x3, y1, y3, z1, z3, ← hI3 (bd' x2) (bd' y2) (bd' z2)]
      unfold B_printedHeight
      rw [xn, x1, q]
      simp +decide only [↓reduceIte, ifT inn, nm_eq, ih _ _ x2, ob_some, y1, ih _ _ y2, z1, ih _ _ z2]
    · have y3 : ix (nI y) = y := ix_nI (by have := y2.nb; omega)
      have z3 : ix (nI z) = z := ix_nI (by have := z2.nb; omega)
      rw [(PS_4 (h := h) q).2, y1, y3, z1, z3, ← hI2 (bd' y2) (bd' z2)]
      unfold B_printedHeight
      rw [xn]
      rcases q with q | q <;> rw [q] <;> simp +decide only [↓reduceIte, ifT inn, nm_eq, ob_some, y1, ih _ _ y2, z1, ih _ _ z2]
end SIZE
