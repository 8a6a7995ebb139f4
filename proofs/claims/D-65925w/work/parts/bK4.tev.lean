/-! Layer B: values of nodes: what the twin does with a node, by its sort -/
set_option maxRecDepth 100000
abbrev gW (d : Nat) := (G_chainValue d).2.2.2.2.2
abbrev gH (d : Nat) := (G_chainValue d).2.2.1
abbrev gF (d : Nat) := (G_chainValue d).2.1
abbrev gC (d : Nat) := (G_chainValue d).1
abbrev gV (d : Nat) := (G_chainValue d).2.2.2.2.1
abbrev gP (d : Nat) := (G_chainValue d).2.2.2.1
section TEV
variable {M : CM} {σ : TS} {a b op x2 : Int32} {d n : Nat}
theorem gW_s : gW (d + 1) = B_worth (gV d) (gW d) (gH d) (gC d) := rfl
theorem gH_s : gH (d + 1) = B_holds (gH d) (gF d) := rfl
theorem gF_s : gF (d + 1) = B_finds (gW d) := rfl
theorem gC_s : gC (d + 1) = B_chainValue (gW d) := rfl
theorem gV_s : gV (d + 1) = B_valueOf (gP d) := rfl
theorem gP_s : gP (d + 1) = B_parameter (gW d) := rfl
/-- after a fault -/
theorem t_wF (h : tI σ 0 ≠ 0) : gW (d + 1) a b σ = some (0, σ) := by
  rw [gW_s]
  unfold B_worth
  rw [t_isBad1 h, ob_some, ifF (show ¬ (1 : Int32) = 0 by decide)]
theorem t_hF (h : tI σ 0 ≠ 0) : gH (d + 1) a b σ = some (0, σ) := by
  rw [gH_s]
  unfold B_holds
  rw [t_isBad1 h, ob_some, ifF (show ¬ (1 : Int32) = 0 by decide)]
theorem t_wNum (h0 : tI σ 0 = 0) (hn : n < 70000) (h : tA σ 121 n = 0) : gW (d + 1) (nI n) x2 σ = some (tA σ 122 n, σ) := by
  have i7 : inb (nI n) 70000 := inb_nI' hn (by decide)
  have x7 : ix (nI n) = n := ix_nI (by omega)
  rw [gW_s]
  unfold B_worth
  rw [t_isBad0 h0, ob_some, ifT (rfl : (0 : Int32) = 0), ifT i7, x7, h, ifT (rfl : (0 : Int32) = 0), ifT i7]
theorem t_wTime (h0 : tI σ 0 = 0) (hn : n < 70000) (h : tA σ 121 n = 1) : gW (d + 1) (nI n) x2 σ = some (tI σ 165, σ) := by
  have i7 : inb (nI n) 70000 := inb_nI' hn (by decide)
  have x7 : ix (nI n) = n := ix_nI (by omega)
  rw [gW_s]
  unfold B_worth
  rw [t_isBad0 h0, ob_some, ifT (rfl : (0 : Int32) = 0), ifT i7, x7, h, ifF (show ¬ (1 : Int32) = 0 by decide), ifT (rfl : (1 : Int32) = 1)]
theorem t_wVar (h0 : tI σ 0 = 0) (hn : n < 70000) (h : tA σ 121 n = 2) : gW (d + 1) (nI n) x2 σ = gV d (tA σ 122 n) σ := by
  have i7 : inb (nI n) 70000 := inb_nI' hn (by decide)
  have x7 : ix (nI n) = n := ix_nI (by omega)
  rw [gW_s]
  unfold B_worth
  rw [t_isBad0 h0, ob_some, ifT (rfl : (0 : Int32) = 0), ifT i7, x7, h, ifF (show ¬ (2 : Int32) = 0 by decide), ifF (show ¬ (2 : Int32) = 1 by decide), ifT (rfl : (2 : Int32) = 2), ifT i7, ob_id]
theorem t_wDer (h0 : tI σ 0 = 0) (hn : n < 70000) (h : tA σ 121 n = 3) : gW (d + 1) (nI n) x2 σ = F_derOf (tA σ 122 n) σ := by
  have i7 : inb (nI n) 70000 := inb_nI' hn (by decide)
  have x7 : ix (nI n) = n := ix_nI (by omega)
  rw [gW_s]
  unfold B_worth
  rw [t_isBad0 h0, ob_some, ifT (rfl : (0 : Int32) = 0), ifT i7, x7, h, ifF (show ¬ (3 : Int32) = 0 by decide), ifF (show ¬ (3 : Int32) = 1 by decide), ifF (show ¬ (3 : Int32) = 2 by decide), ifT (rfl : (3 : Int32) = 3), ifT i7, ob_id]
theorem t_wPre (h0 : tI σ 0 = 0) (hn : n < 70000) (h : tA σ 121 n = 4) : gW (d + 1) (nI n) x2 σ = F_preOf (tA σ 122 n) σ := by
  have i7 : inb (nI n) 70000 := inb_nI' hn (by decide)
  have x7 : ix (nI n) = n := ix_nI (by omega)
  rw [gW_s]
  unfold B_worth
  rw [t_isBad0 h0, ob_some, ifT (rfl : (0 : Int32) = 0), ifT i7, x7, h, ifF (show ¬ (4 : Int32) = 0 by decide), ifF (show ¬ (4 : Int32) = 1 by decide), ifF (show ¬ (4 : Int32) = 2 by decide), ifF (show ¬ (4 : Int32) = 3 by decide), ifT (rfl : (4 : Int32) = 4), ifT i7, ob_id]
theorem t_wIf (h0 : tI σ 0 = 0) (hn : n < 70000) (h : tA σ 121 n = 16) : gW (d + 1) (nI n) x2 σ = ob (gH d (tA σ 122 n) x2 σ) fun r s => if r = 0 then if inb (nI n) 70000 then gW d (tA s 124 n) x2 s else none else if inb (nI n) 70000 then gW d (tA s 123 n) x2 s else none := by
  have i7 : inb (nI n) 70000 := inb_nI' hn (by decide)
  have x7 : ix (nI n) = n := ix_nI (by omega)
  rw [gW_s]
  unfold B_worth
  rw [t_isBad0 h0, ob_some, ifT (rfl : (0 : Int32) = 0), ifT i7, x7, h, ifF (show ¬ (16 : Int32) = 0 by decide), ifF (show ¬ (16 : Int32) = 1 by decide), ifF (show ¬ (16 : Int32) = 2 by decide), ifF (show ¬ (16 : Int32) = 3 by decide), ifF (show ¬ (16 : Int32) = 4 by decide), ifF (show ¬ (16 : Int32) = 5 by decide), ifF (show ¬ (16 : Int32) = 6 by decide), ifF (show ¬ (16 : Int32) = 7 by decide), ifF (show ¬ (16 : Int32) = 8 by decide), ifF (show ¬ (16 : Int32) = 9 by decide), ifF (show ¬ (16 : Int32) = 10 by decide), ifF (show ¬ (16 : Int32) = 11 by decide), ifF (show ¬ (16 : Int32) = 12 by decide), ifF (show ¬ (16 : Int32) = 13 by decide), ifF (show ¬ (16 : Int32) = 14 by decide), ifF (show ¬ (16 : Int32) = 15 by decide), ifT (rfl : (16 : Int32) = 16), ifT i7]
  simp only [ob_id]
theorem t_wMin (h0 : tI σ 0 = 0) (hn : n < 70000) (h : tA σ 121 n = 14) : gW (d + 1) (nI n) x2 σ = ob (gW d (tA σ 122 n) x2 σ) fun r s => if inb (nI n) 70000 then ob (gW d (tA s 123 n) x2 s) fun r2 s => some (mmin r r2, s) else none := by
  have i7 : inb (nI n) 70000 := inb_nI' hn (by decide)
  have x7 : ix (nI n) = n := ix_nI (by omega)
  rw [gW_s]
  unfold B_worth
  rw [t_isBad0 h0, ob_some, ifT (rfl : (0 : Int32) = 0), ifT i7, x7, h, ifF (show ¬ (14 : Int32) = 0 by decide), ifF (show ¬ (14 : Int32) = 1 by decide), ifF (show ¬ (14 : Int32) = 2 by decide), ifF (show ¬ (14 : Int32) = 3 by decide), ifF (show ¬ (14 : Int32) = 4 by decide), ifF (show ¬ (14 : Int32) = 5 by decide), ifF (show ¬ (14 : Int32) = 6 by decide), ifF (show ¬ (14 : Int32) = 7 by decide), ifF (show ¬ (14 : Int32) = 8 by decide), ifF (show ¬ (14 : Int32) = 9 by decide), ifF (show ¬ (14 : Int32) = 10 by decide), ifF (show ¬ (14 : Int32) = 11 by decide), ifF (show ¬ (14 : Int32) = 12 by decide), ifF (show ¬ (14 : Int32) = 13 by decide), ifT (rfl : (14 : Int32) = 14), ifT i7]
theorem t_wMax (h0 : tI σ 0 = 0) (hn : n < 70000) (h : tA σ 121 n = 15) : gW (d + 1) (nI n) x2 σ = ob (gW d (tA σ 122 n) x2 σ) fun r s => if inb (nI n) 70000 then ob (gW d (tA s 123 n) x2 s) fun r2 s => some (mmax r r2, s) else none := by
  have i7 : inb (nI n) 70000 := inb_nI' hn (by decide)
  have x7 : ix (nI n) = n := ix_nI (by omega)
  rw [gW_s]
  unfold B_worth
  rw [t_isBad0 h0, ob_some, ifT (rfl : (0 : Int32) = 0), ifT i7, x7, h, ifF (show ¬ (15 : Int32) = 0 by decide), ifF (show ¬ (15 : Int32) = 1 by decide), ifF (show ¬ (15 : Int32) = 2 by decide), ifF (show ¬ (15 : Int32) = 3 by decide), ifF (show ¬ (15 : Int32) = 4 by decide), ifF (show ¬ (15 : Int32) = 5 by decide), ifF (show ¬ (15 : Int32) = 6 by decide), ifF (show ¬ (15 : Int32) = 7 by decide), ifF (show ¬ (15 : Int32) = 8 by decide), ifF (show ¬ (15 : Int32) = 9 by decide), ifF (show ¬ (15 : Int32) = 10 by decide), ifF (show ¬ (15 : Int32) = 11 by decide), ifF (show ¬ (15 : Int32) = 12 by decide), ifF (show ¬ (15 : Int32) = 13 by decide), ifF (show ¬ (15 : Int32) = 14 by decide), ifT (rfl : (15 : Int32) = 15), ifT i7]
theorem t_wUnk (h0 : tI σ 0 = 0) (hn : n < 70000) (h : tA σ 121 n = 30) : gW (d + 1) (nI n) x2 σ = if inb (tA σ 122 n) 200 then some (tA σ 166 (ix (tA σ 122 n)), σ) else none := by
  have i7 : inb (nI n) 70000 := inb_nI' hn (by decide)
  have x7 : ix (nI n) = n := ix_nI (by omega)
  rw [gW_s]
  unfold B_worth
  rw [t_isBad0 h0, ob_some, ifT (rfl : (0 : Int32) = 0), ifT i7, x7, h, ifF (show ¬ (30 : Int32) = 0 by decide), ifF (show ¬ (30 : Int32) = 1 by decide), ifF (show ¬ (30 : Int32) = 2 by decide), ifF (show ¬ (30 : Int32) = 3 by decide), ifF (show ¬ (30 : Int32) = 4 by decide), ifF (show ¬ (30 : Int32) = 5 by decide), ifF (show ¬ (30 : Int32) = 6 by decide), ifF (show ¬ (30 : Int32) = 7 by decide), ifF (show ¬ (30 : Int32) = 8 by decide), ifF (show ¬ (30 : Int32) = 9 by decide), ifF (show ¬ (30 : Int32) = 10 by decide), ifF (show ¬ (30 : Int32) = 11 by decide), ifF (show ¬ (30 : Int32) = 12 by decide), ifF (show ¬ (30 : Int32) = 13 by decide), ifF (show ¬ (30 : Int32) = 14 by decide), ifF (show ¬ (30 : Int32) = 15 by decide), ifF (show ¬ (30 : Int32) = 16 by decide), ifF (show ¬ (30 : Int32) = 17 by decide), ifF (show ¬ (30 : Int32) = 18 by decide), ifF (show ¬ (30 : Int32) = 19 by decide), ifF (show ¬ (30 : Int32) = 20 by decide), ifF (show ¬ (30 : Int32) = 21 by decide), ifF (show ¬ (30 : Int32) = 22 by decide), ifF (show ¬ (30 : Int32) = 23 by decide), ifF (show ¬ (30 : Int32) = 24 by decide), ifF (show ¬ (30 : Int32) = 25 by decide), ifF (show ¬ (30 : Int32) = 26 by decide), ifF (show ¬ (30 : Int32) = 27 by decide), ifF (show ¬ (30 : Int32) = 28 by decide), ifF (show ¬ (30 : Int32) = 29 by decide), ifT (rfl : (30 : Int32) = 30), ifT i7]
theorem t_wCh (h0 : tI σ 0 = 0) (hn : n < 70000) (h : tA σ 121 n = op) (ho : op = 5 ∨ op = 6 ∨ op = 8 ∨ op = 9) : gW (d + 1) (nI n) x2 σ = gC d (nI n) x2 σ := by
  have i7 : inb (nI n) 70000 := inb_nI' hn (by decide)
  have x7 : ix (nI n) = n := ix_nI (by omega)
  rw [gW_s]
  unfold B_worth
  rw [t_isBad0 h0, ob_some, ifT (rfl : (0 : Int32) = 0), ifT i7, x7, h]
  rcases ho with rfl | rfl | rfl | rfl
  · rw [ifF (show ¬ (5 : Int32) = 0 by decide), ifF (show ¬ (5 : Int32) = 1 by decide), ifF (show ¬ (5 : Int32) = 2 by decide), ifF (show ¬ (5 : Int32) = 3 by decide), ifF (show ¬ (5 : Int32) = 4 by decide), ifT (rfl : (5 : Int32) = 5), ob_id]
  · rw [ifF (show ¬ (6 : Int32) = 0 by decide), ifF (show ¬ (6 : Int32) = 1 by decide), ifF (show ¬ (6 : Int32) = 2 by decide), ifF (show ¬ (6 : Int32) = 3 by decide), ifF (show ¬ (6 : Int32) = 4 by decide), ifF (show ¬ (6 : Int32) = 5 by decide), ifT (rfl : (6 : Int32) = 6), ob_id]
  · rw [ifF (show ¬ (8 : Int32) = 0 by decide), ifF (show ¬ (8 : Int32) = 1 by decide), ifF (show ¬ (8 : Int32) = 2 by decide), ifF (show ¬ (8 : Int32) = 3 by decide), ifF (show ¬ (8 : Int32) = 4 by decide), ifF (show ¬ (8 : Int32) = 5 by decide), ifF (show ¬ (8 : Int32) = 6 by decide), ifF (show ¬ (8 : Int32) = 7 by decide), ifT (rfl : (8 : Int32) = 8), ob_id]
  · rw [ifF (show ¬ (9 : Int32) = 0 by decide), ifF (show ¬ (9 : Int32) = 1 by decide), ifF (show ¬ (9 : Int32) = 2 by decide), ifF (show ¬ (9 : Int32) = 3 by decide), ifF (show ¬ (9 : Int32) = 4 by decide), ifF (show ¬ (9 : Int32) = 5 by decide), ifF (show ¬ (9 : Int32) = 6 by decide), ifF (show ¬ (9 : Int32) = 7 by decide), ifF (show ¬ (9 : Int32) = 8 by decide), ifT (rfl : (9 : Int32) = 9), ob_id]
theorem tOne7 : tOne 7 b σ = some (-b, σ) := by unfold tOne; rw [ifT (rfl : (7 : Int32) = 7)]
theorem tOne10 : tOne 10 b σ = (if 0 ≤ b then some (b, σ) else some (-b, σ)) := by unfold tOne; rw [ifF (show ¬ (10 : Int32) = 7 by decide), ifT (rfl : (10 : Int32) = 10)]
theorem tOne11 : tOne 11 b σ = F_root b σ := by unfold tOne; rw [ifF (show ¬ (11 : Int32) = 7 by decide), ifF (show ¬ (11 : Int32) = 10 by decide), ifT (rfl : (11 : Int32) = 11)]
theorem tOne12 : tOne 12 b σ = (if 0 ≤ b then if b ≤ 0 then some (0, σ) else some (65536, σ) else some ((-65536), σ)) := by unfold tOne; rw [ifF (show ¬ (12 : Int32) = 7 by decide), ifF (show ¬ (12 : Int32) = 10 by decide), ifF (show ¬ (12 : Int32) = 11 by decide), ifT (rfl : (12 : Int32) = 12)]
theorem tOne13 : tOne 13 b σ = F_fit (b.toInt64 &&& (-65536)) σ := by unfold tOne; rw [ifF (show ¬ (13 : Int32) = 7 by decide), ifF (show ¬ (13 : Int32) = 10 by decide), ifF (show ¬ (13 : Int32) = 11 by decide), ifF (show ¬ (13 : Int32) = 12 by decide)]
theorem t_wUn (h0 : tI σ 0 = 0) (hn : n < 70000) (h : tA σ 121 n = op) (ho : op = 7 ∨ op = 10 ∨ op = 11 ∨ op = 12 ∨ op = 13) : gW (d + 1) (nI n) x2 σ = ob (gW d (tA σ 122 n) x2 σ) fun r s => tOne op r s := by
  have i7 : inb (nI n) 70000 := inb_nI' hn (by decide)
  have x7 : ix (nI n) = n := ix_nI (by omega)
  rw [gW_s]
  unfold B_worth
  rw [t_isBad0 h0, ob_some, ifT (rfl : (0 : Int32) = 0), ifT i7, x7, h]
  rcases ho with rfl | rfl | rfl | rfl | rfl
  · rw [ifF (show ¬ (7 : Int32) = 0 by decide), ifF (show ¬ (7 : Int32) = 1 by decide), ifF (show ¬ (7 : Int32) = 2 by decide), ifF (show ¬ (7 : Int32) = 3 by decide), ifF (show ¬ (7 : Int32) = 4 by decide), ifF (show ¬ (7 : Int32) = 5 by decide), ifF (show ¬ (7 : Int32) = 6 by decide), ifT (rfl : (7 : Int32) = 7), ifT i7]; simp only [tOne7, ob_id]
  · rw [ifF (show ¬ (10 : Int32) = 0 by decide), ifF (show ¬ (10 : Int32) = 1 by decide), ifF (show ¬ (10 : Int32) = 2 by decide), ifF (show ¬ (10 : Int32) = 3 by decide), ifF (show ¬ (10 : Int32) = 4 by decide), ifF (show ¬ (10 : Int32) = 5 by decide), ifF (show ¬ (10 : Int32) = 6 by decide), ifF (show ¬ (10 : Int32) = 7 by decide), ifF (show ¬ (10 : Int32) = 8 by decide), ifF (show ¬ (10 : Int32) = 9 by decide), ifT (rfl : (10 : Int32) = 10), ifT i7]; simp only [tOne10, ob_id]
  · rw [ifF (show ¬ (11 : Int32) = 0 by decide), ifF (show ¬ (11 : Int32) = 1 by decide), ifF (show ¬ (11 : Int32) = 2 by decide), ifF (show ¬ (11 : Int32) = 3 by decide), ifF (show ¬ (11 : Int32) = 4 by decide), ifF (show ¬ (11 : Int32) = 5 by decide), ifF (show ¬ (11 : Int32) = 6 by decide), ifF (show ¬ (11 : Int32) = 7 by decide), ifF (show ¬ (11 : Int32) = 8 by decide), ifF (show ¬ (11 : Int32) = 9 by decide), ifF (show ¬ (11 : Int32) = 10 by decide), ifT (rfl : (11 : Int32) = 11), ifT i7]; simp only [tOne11, ob_id]
  · rw [ifF (show ¬ (12 : Int32) = 0 by decide), ifF (show ¬ (12 : Int32) = 1 by decide), ifF (show ¬ (12 : Int32) = 2 by decide), ifF (show ¬ (12 : Int32) = 3 by decide), ifF (show ¬ (12 : Int32) = 4 by decide), ifF (show ¬ (12 : Int32) = 5 by decide), ifF (show ¬ (12 : Int32) = 6 by decide), ifF (show ¬ (12 : Int32) = 7 by decide), ifF (show ¬ (12 : Int32) = 8 by decide), ifF (show ¬ (12 : Int32) = 9 by decide), ifF (show ¬ (12 : Int32) = 10 by decide), ifF (show ¬ (12 : Int32) = 11 by decide), ifT (rfl : (12 : Int32) = 12), ifT i7]; simp only [tOne12, ob_id]
  · rw [ifF (show ¬ (13 : Int32) = 0 by decide), ifF (show ¬ (13 : Int32) = 1 by decide), ifF (show ¬ (13 : Int32) = 2 by decide), ifF (show ¬ (13 : Int32) = 3 by decide), ifF (show ¬ (13 : Int32) = 4 by decide), ifF (show ¬ (13 : Int32) = 5 by decide), ifF (show ¬ (13 : Int32) = 6 by decide), ifF (show ¬ (13 : Int32) = 7 by decide), ifF (show ¬ (13 : Int32) = 8 by decide), ifF (show ¬ (13 : Int32) = 9 by decide), ifF (show ¬ (13 : Int32) = 10 by decide), ifF (show ¬ (13 : Int32) = 11 by decide), ifF (show ¬ (13 : Int32) = 12 by decide), ifT (rfl : (13 : Int32) = 13), ifT i7]; simp only [tOne13, ob_id]
theorem t_hAnd (h0 : tI σ 0 = 0) (hn : n < 70000) (h : tA σ 121 n = 21) : gH (d + 1) (nI n) x2 σ = ob (gH d (tA σ 122 n) x2 σ) fun r s => if inb (nI n) 70000 then ob (gH d (tA s 123 n) x2 s) fun r2 s => if r2 = 0 then some (0, s) else if r = 0 then some (0, s) else some (1, s) else none := by
  have i7 : inb (nI n) 70000 := inb_nI' hn (by decide)
  have x7 : ix (nI n) = n := ix_nI (by omega)
  rw [gH_s]
  unfold B_holds
  rw [t_isBad0 h0, ob_some, ifT (rfl : (0 : Int32) = 0), ifT i7, x7, h, ifF (show ¬ (21 : Int32) = 20 by decide), ifT (rfl : (21 : Int32) = 21), ifT i7]
theorem t_hOr (h0 : tI σ 0 = 0) (hn : n < 70000) (h : tA σ 121 n = 22) : gH (d + 1) (nI n) x2 σ = ob (gH d (tA σ 122 n) x2 σ) fun r s => if inb (nI n) 70000 then ob (gH d (tA s 123 n) x2 s) fun r2 s => if r2 = 0 then if r = 0 then some (0, s) else some (1, s) else some (1, s) else none := by
  have i7 : inb (nI n) 70000 := inb_nI' hn (by decide)
  have x7 : ix (nI n) = n := ix_nI (by omega)
  rw [gH_s]
  unfold B_holds
  rw [t_isBad0 h0, ob_some, ifT (rfl : (0 : Int32) = 0), ifT i7, x7, h, ifF (show ¬ (22 : Int32) = 20 by decide), ifF (show ¬ (22 : Int32) = 21 by decide), ifT (rfl : (22 : Int32) = 22), ifT i7]
theorem t_hNot (h0 : tI σ 0 = 0) (hn : n < 70000) (h : tA σ 121 n = 23) : gH (d + 1) (nI n) x2 σ = ob (gH d (tA σ 122 n) x2 σ) fun r s => if r = 0 then ob (F_isBad s) fun r2 s => if r2 = 0 then some (1, s) else some (0, s) else some (0, s) := by
  have i7 : inb (nI n) 70000 := inb_nI' hn (by decide)
  have x7 : ix (nI n) = n := ix_nI (by omega)
  rw [gH_s]
  unfold B_holds
  rw [t_isBad0 h0, ob_some, ifT (rfl : (0 : Int32) = 0), ifT i7, x7, h, ifF (show ¬ (23 : Int32) = 20 by decide), ifF (show ¬ (23 : Int32) = 21 by decide), ifF (show ¬ (23 : Int32) = 22 by decide), ifT (rfl : (23 : Int32) = 23), ifT i7]
theorem t_hSmp (h0 : tI σ 0 = 0) (hn : n < 70000) (h : tA σ 121 n = 24) : gH (d + 1) (nI n) x2 σ = if inb (tA σ 162 n) 24 then some (tA σ 163 (ix (tA σ 162 n)), σ) else none := by
  have i7 : inb (nI n) 70000 := inb_nI' hn (by decide)
  have x7 : ix (nI n) = n := ix_nI (by omega)
  rw [gH_s]
  unfold B_holds
  rw [t_isBad0 h0, ob_some, ifT (rfl : (0 : Int32) = 0), ifT i7, x7, h, ifF (show ¬ (24 : Int32) = 20 by decide), ifF (show ¬ (24 : Int32) = 21 by decide), ifF (show ¬ (24 : Int32) = 22 by decide), ifF (show ¬ (24 : Int32) = 23 by decide), ifT (rfl : (24 : Int32) = 24), ifT i7]
theorem t_hRel (h0 : tI σ 0 = 0) (hn : n < 70000) (h : tA σ 121 n = 20) (hx : ¬ x2 = 1) : gH (d + 1) (nI n) x2 σ = gF d (nI n) x2 σ := by
  have i7 : inb (nI n) 70000 := inb_nI' hn (by decide)
  have x7 : ix (nI n) = n := ix_nI (by omega)
  rw [gH_s]
  unfold B_holds
  rw [t_isBad0 h0, ob_some, ifT (rfl : (0 : Int32) = 0), ifT i7, x7, h, ifT (rfl : (20 : Int32) = 20), ifF hx, ob_id]
theorem t_fin (hn : n < 70000) : gF (d + 1) (nI n) x2 σ = ob (gW d (tA σ 123 n) x2 σ) fun r s => ob (gW d (tA s 124 n) x2 s) fun r2 s => ob (F_isBad s) fun q s => if q = 0 then ob (F_compare (tA s 122 n) r r2 s) fun z s => if z = 0 then some (0, s) else some (1, s) else some (0, s) := by
  have i7 : inb (nI n) 70000 := inb_nI' hn (by decide)
  have x7 : ix (nI n) = n := ix_nI (by omega)
  rw [gF_s]
  unfold B_finds
  simp only [if_pos i7, x7]
end TEV
