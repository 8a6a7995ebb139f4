/-! Layer B: the flat model: what each side does with an expression, by its sort -/
set_option maxRecDepth 100000
abbrev unP : List (Int32 × Int32 × Int32) := [(107, 7, 7), (31, 8, 10), (32, 9, 11), (35, 12, 12), (36, 13, 13)]
abbrev biP : List (Int32 × Int32 × Int32) := [(103, 3, 5), (104, 4, 6), (105, 5, 8), (106, 6, 9), (33, 10, 14), (34, 11, 15)]
section CASES
variable {C : PC} {D D' D1 D2 : FQ} {M M' M1 M2 M3 : CM} {σ σ' s : TS} {x0 o n c2 c3 : Nat} {x2n : Nat} {x2 x3 x4 x5 op op' tok cop : Int32} {cf : Nat → Nat → Int32 → Int32 → Int32 → CM → Option ((Nat ⊕ Nat) × CM)} {cf' : Int32 → Int32 → Int32 → Int32 → TS → Option (Int32 × TS)}
/-- the component's end of an expression with parts -/
theorem k_511 {x6 x7 y0 : Nat} (ko : mk M o = 8) (h27 : mR M 27 1 = x0) (kx : mk M x0 = 4) (hop : (mI M 1400 o = 21 ∧ op = 14) ∨ (¬ mI M 1400 o = 21 ∧ K_X0_opOf (mI M 1400 o) M = some (op, M))) : KJ_X0_flatten_3_511 cf o x6 x7 y0 M = K_X3_make x0 op 0 x6 x7 y0 M := by
  unfold KJ_X0_flatten_3_511
  rw [ifT ko]
  rcases hop with ⟨h1, h2⟩ | ⟨h1, h2⟩
  · rw [ifT h1, h27, ifT kx, obS_id, h2]
  · rw [ifF h1, ifT ko, h2, ob_some, h27, ifT kx, obS_id]
/-- with parts: the first of them is flattened first -/
theorem k_gen (ko : mk M o = 8) (h5 : x5 ≤ 100) (hop : ∀ k, k ∈ ([26, 27, 29, 30, 100, 101, 102, 108, 109] : List Int32) → ¬ mI M 1400 o = k) : KB_X0_flatten_3 cf o x2n x3 x4 x5 M = obS (cf (mR M 1402 o) x2n x3 x4 (x5 + 1) M) (fun w M => some (.inr w, M)) fun r208 M207 => if mk M207 o = 8 then if mR M207 1403 o = 0 then KJ_X0_flatten_3_482 cf o x2n x3 x4 x5 r208 0 M207 else if mk M207 o = 8 then obS (cf (mR M207 1403 o) x2n x3 x4 (x5 + 1) M207) (fun w M => some (.inr w, M)) fun r215 M214 => KJ_X0_flatten_3_482 cf o x2n x3 x4 x5 r208 r215 M214 else none else none := by
  unfold KB_X0_flatten_3
  rw [ifT h5, ifT ko, ifF (hop 26 (by decide)), ifF (hop 27 (by decide)), ifF (hop 29 (by decide)), ifF (hop 30 (by decide)), ifF (hop 100 (by decide)), ifF (hop 101 (by decide)), ifF (hop 102 (by decide)), ifF (hop 108 (by decide)), ifF (hop 109 (by decide)), ifT ko]
theorem k_482 {x6 y0 : Nat} (ko : mk M o = 8) : KJ_X0_flatten_3_482 cf o x2n x3 x4 x5 x6 y0 M = if mR M 1404 o = 0 then KJ_X0_flatten_3_511 cf o x6 y0 0 M else obS (cf (mR M 1404 o) x2n x3 x4 (x5 + 1) M) (fun w M => some (.inr w, M)) fun r222 M221 => KJ_X0_flatten_3_511 cf o x6 y0 r222 M221 := by
  unfold KJ_X0_flatten_3_482
  rw [ifT ko]
  by_cases q : mR M 1404 o = 0
  · rw [ifT q, ifT q]
  · rw [ifF q, ifF q, ifT ko]
/-- the twin: what's common -/
theorem t_b21 (h0 : tI σ 0 = 0) (h4 : x4 ≤ 100) : B_build cf' (nI n) x2 x3 x4 σ = J_build_21 cf' (nI n) x2 x3 x4 σ := by
  unfold B_build
  rw [t_isBad0 h0, ob_some, ifT (rfl : (0 : Int32) = 0), ifT h4]
theorem t_un (h0 : tI σ 0 = 0) (hn : n < 9000) (h24 : tA σ 24 n = op') (ho : op' ∈ unT_) : J_build_21 cf' (nI n) x2 x3 x4 σ = ob (cf' (tA σ 25 n) x2 x3 (x4 + 1) σ) fun r s => ob (F_make op' r 0 0 s) fun r s => some (r, s) := by
  have i9 : inb (nI n) 9000 := inb_nI' hn (by decide)
  have x9 : ix (nI n) = n := ix_nI (by omega)
  unfold J_build_21
  rw [t_isBad0 h0, ob_some, ifT (rfl : (0 : Int32) = 0), ifT i9, x9, h24, nm_eq]
  simp only [List.mem_cons, List.not_mem_nil, or_false] at ho
  rcases ho with rfl | rfl | rfl | rfl | rfl | rfl <;> exact ifT i9
theorem t_bi (h0 : tI σ 0 = 0) (hn : n < 9000) (h24 : tA σ 24 n = op') (ho : op' ∈ biT) : J_build_21 cf' (nI n) x2 x3 x4 σ = ob (cf' (tA σ 25 n) x2 x3 (x4 + 1) σ) fun r s => if inb (nI n) 9000 then ob (cf' (tA s 26 (ix (nI n))) x2 x3 (x4 + 1) s) fun r2 s => ob (F_make op' r r2 0 s) fun r s => some (r, s) else none := by
  have i9 : inb (nI n) 9000 := inb_nI' hn (by decide)
  have x9 : ix (nI n) = n := ix_nI (by omega)
  have e9 : tA σ 25 n = tA σ 25 (ix (nI n)) := by rw [x9]
  have f9 : tA σ 24 (ix (nI n)) = op' := by rw [x9]; exact h24
  unfold J_build_21
  rw [t_isBad0 h0, ob_some, ifT (rfl : (0 : Int32) = 0), ifT i9, f9, nm_eq, e9]
  simp only [List.mem_cons, List.not_mem_nil, or_false] at ho
  rcases ho with rfl | rfl | rfl | rfl | rfl | rfl | rfl | rfl <;> exact ifT i9
theorem t_if (h0 : tI σ 0 = 0) (hn : n < 9000) (h24 : tA σ 24 n = 16) : J_build_21 cf' (nI n) x2 x3 x4 σ = ob (cf' (tA σ 25 n) x2 x3 (x4 + 1) σ) fun r s => if inb (nI n) 9000 then ob (cf' (tA s 26 (ix (nI n))) x2 x3 (x4 + 1) s) fun r2 s => if inb (nI n) 9000 then ob (cf' (tA s 27 (ix (nI n))) x2 x3 (x4 + 1) s) fun r3 s => ob (F_make 16 r r2 r3 s) fun r s => some (r, s) else none else none := by
  have i9 : inb (nI n) 9000 := inb_nI' hn (by decide)
  have x9 : ix (nI n) = n := ix_nI (by omega)
  have e9 : tA σ 25 n = tA σ 25 (ix (nI n)) := by rw [x9]
  have f9 : tA σ 24 (ix (nI n)) = 16 := by rw [x9]; exact h24
  unfold J_build_21
  rw [t_isBad0 h0, ob_some, ifT (rfl : (0 : Int32) = 0), ifT i9, f9, nm_eq, e9]
  exact ifT i9
theorem t_rl (h0 : tI σ 0 = 0) (hn : n < 9000) (h24 : tA σ 24 n = 20) : J_build_21 cf' (nI n) x2 x3 x4 σ = ob (cf' (tA σ 26 n) x2 x3 (x4 + 1) σ) fun r s => if inb (nI n) 9000 then if inb (nI n) 9000 then ob (cf' (tA s 27 (ix (nI n))) x2 x3 (x4 + 1) s) fun r2 s2 => ob (F_make 20 (tA s 25 (ix (nI n))) r r2 s2) fun r s => some (r, s) else none else none := by
  have i9 : inb (nI n) 9000 := inb_nI' hn (by decide)
  have x9 : ix (nI n) = n := ix_nI (by omega)
  have e9 : tA σ 26 n = tA σ 26 (ix (nI n)) := by rw [x9]
  have f9 : tA σ 24 (ix (nI n)) = 20 := by rw [x9]; exact h24
  unfold J_build_21
  rw [t_isBad0 h0, ob_some, ifT (rfl : (0 : Int32) = 0), ifT i9, f9, nm_eq, e9]
  exact ifT i9
theorem t_con (h0 : tI σ 0 = 0) (hn : n < 9000) (h24 : tA σ 24 n = 0) : J_build_21 cf' (nI n) x2 x3 x4 σ = F_make 0 (tA σ 25 n) 0 0 σ := by
  have i9 : inb (nI n) 9000 := inb_nI' hn (by decide)
  have x9 : ix (nI n) = n := ix_nI (by omega)
  unfold J_build_21
  rw [t_isBad0 h0, ob_some, ifT (rfl : (0 : Int32) = 0), ifT i9, x9, h24, nm_eq, ifT (rfl : (0 : Int32) = 0), ifT i9, ob_id]
theorem t_time (h0 : tI σ 0 = 0) (hn : n < 9000) (h24 : tA σ 24 n = 1) : J_build_21 cf' (nI n) x2 x3 x4 σ = if tI σ 138 = 0 then F_make 1 0 0 0 σ else F_make 1 0 0 0 (badT σ 28) := by
  have i9 : inb (nI n) 9000 := inb_nI' hn (by decide)
  have x9 : ix (nI n) = n := ix_nI (by omega)
  unfold J_build_21
  rw [t_isBad0 h0, ob_some, ifT (rfl : (0 : Int32) = 0), ifT i9, x9, h24, nm_eq, ifF (show ¬ (1 : Int32) = 0 by decide), ifT rfl]
  by_cases q : tI σ 138 = 0
  · rw [ifT q, ifT q, ob_id]
  · rw [ifF q, ifF q, t_badT h0, ob_some, ob_id]
theorem t_var (h0 : tI σ 0 = 0) (hn : n < 9000) (h24 : tA σ 24 n = 2) : J_build_21 cf' (nI n) x2 x3 x4 σ = ob (F_variableOf (tA σ 25 n) x2 σ) fun r35 s34 => ob (F_isBad s34) fun r39 s38 => if r39 = 0 then if tI s38 138 = 0 then ob (F_make 2 r35 0 0 s38) fun r48 s47 => some (r48, s47) else if inb r35 96 then if tA s38 94 (ix r35) = 1 then ob (F_make 2 r35 0 0 s38) fun r53 s52 => some (r53, s52) else ob (F_bad 28 0 s38) fun _ s56 => ob (F_make 2 r35 0 0 s56) fun r61 s60 => some (r61, s60) else none else ob (F_make 2 r35 0 0 s38) fun r43 s42 => some (r43, s42) := by
  have i9 : inb (nI n) 9000 := inb_nI' hn (by decide)
  have x9 : ix (nI n) = n := ix_nI (by omega)
  unfold J_build_21
  rw [t_isBad0 h0, ob_some, ifT (rfl : (0 : Int32) = 0), ifT i9, x9, h24, nm_eq]
  exact ifT i9
theorem t_der (h0 : tI σ 0 = 0) (hn : n < 9000) (h24 : tA σ 24 n = 3) : J_build_21 cf' (nI n) x2 x3 x4 σ = if tI σ 138 = 0 then ob (F_variableOf (tA σ 25 n) x2 σ) fun r71 s70 => ob (F_isBad s70) fun r75 s74 => if r75 = 0 then if inb r71 96 then if tA s74 94 (ix r71) = 0 then ob (F_make 3 r71 0 0 s74) fun r98 s97 => some (r98, s97) else ob (F_bad 29 0 s74) fun _ s101 => ob (F_make 3 r71 0 0 s101) fun r106 s105 => some (r106, s105) else none else ob (F_make 3 r71 0 0 s74) fun r79 s78 => some (r79, s78) else some (0, badT σ 28) := by
  have i9 : inb (nI n) 9000 := inb_nI' hn (by decide)
  have x9 : ix (nI n) = n := ix_nI (by omega)
  unfold J_build_21
  rw [t_isBad0 h0, ob_some, ifT (rfl : (0 : Int32) = 0), ifT i9, x9, h24, nm_eq, ifF (show ¬ (3 : Int32) = 0 by decide), ifF (show ¬ (3 : Int32) = 1 by decide), ifF (show ¬ (3 : Int32) = 2 by decide), ifT (rfl : (3 : Int32) = 3)]
  by_cases q : tI σ 138 = 0
  · rw [ifT q, ifT q, ifT i9]
    rfl
  · rw [ifF q, ifF q, t_badT h0, ob_some]
theorem t_pre (h0 : tI σ 0 = 0) (hn : n < 9000) (h24 : tA σ 24 n = 4) : J_build_21 cf' (nI n) x2 x3 x4 σ = if tI σ 138 = 0 then ob (F_variableOf (tA σ 25 n) x2 σ) fun r71 s70 => ob (F_isBad s70) fun r75 s74 => if r75 = 0 then if inb r71 96 then if tA s74 94 (ix r71) = 1 then ob (F_bad 29 0 s74) fun _ s101 => ob (F_make 4 r71 0 0 s101) fun r106 s105 => some (r106, s105) else ob (F_make 4 r71 0 0 s74) fun r98 s97 => some (r98, s97) else none else ob (F_make 4 r71 0 0 s74) fun r79 s78 => some (r79, s78) else some (0, badT σ 28) := by
  have i9 : inb (nI n) 9000 := inb_nI' hn (by decide)
  have x9 : ix (nI n) = n := ix_nI (by omega)
  unfold J_build_21
  rw [t_isBad0 h0, ob_some, ifT (rfl : (0 : Int32) = 0), ifT i9, x9, h24, nm_eq, ifF (show ¬ (4 : Int32) = 0 by decide), ifF (show ¬ (4 : Int32) = 1 by decide), ifF (show ¬ (4 : Int32) = 2 by decide), ifF (show ¬ (4 : Int32) = 3 by decide), ifT (rfl : (4 : Int32) = 4)]
  by_cases q : tI σ 138 = 0
  · rw [ifT q, ifT q, ifT i9]
    rfl
  · rw [ifF q, ifF q, t_badT h0, ob_some]
theorem t_name (h0 : tI σ 0 = 0) (hn : n < 9000) (h24 : tA σ 24 n = 41) : J_build_21 cf' (nI n) x2 x3 x4 σ = ob (L_build_248 cf' FU (nI n) 0 0 σ) fun q445 s446 => ob (F_make 0 (q445 <<< (16 &&& 31)) 0 0 s446) fun r449 s448 => some (r449, s448) := by
  have i9 : inb (nI n) 9000 := inb_nI' hn (by decide)
  have x9 : ix (nI n) = n := ix_nI (by omega)
  unfold J_build_21
  rw [t_isBad0 h0, ob_some, ifT (rfl : (0 : Int32) = 0), ifT i9, x9, h24, nm_eq]
  rfl
/-- after a fault it's nothing -/
theorem t_buildF (h0 : tI s 0 ≠ 0) (a b c d : Int32) : B_build cf' a b c d s = some (0, s) := by
  unfold B_build J_build_21
  rw [t_isBad1 h0, ob_some, ifF (show ¬ (1 : Int32) = 0 by decide), t_isBad1 h0, ob_some, ifF (show ¬ (1 : Int32) = 0 by decide)]
end CASES
