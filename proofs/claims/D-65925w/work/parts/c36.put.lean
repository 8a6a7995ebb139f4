/-! Layer B: printing: trees, both sides -/
set_option maxRecDepth 100000
/-- printing, the twin's stack q high -/
def OuQ (M0 : CM) (s0 : TS) (q : Nat) (M : CM) (σ : TS) : Prop := OuE M0 s0 M σ ∧ tI σ 171 = nI q
abbrev onP : List (Int32 × Int32) := [(7, 7), (8, 10), (9, 11), (12, 12), (13, 13), (28, 23)]
abbrev twP : List (Int32 × Int32) := [(10, 14), (11, 15), (26, 21), (27, 22)]
abbrev arQ : List (Int32 × Int32) := [(3, 5), (4, 6), (5, 8), (6, 9)]
/-- a tree that both have -/
def PnR (M0 : CM) (s0 : TS) (Lf : Nat → Nat → Prop) : Nat → Nat → Nat → Prop
  | 0, _, _ => False
  | h + 1, a, n => (mk M0 a = 18 ∧ n < 70000) ∧
    ((Lf a n ∧ ¬ (tA s0 121 n = 5 ∨ tA s0 121 n = 6 ∨ tA s0 121 n = 8 ∨ tA s0 121 n = 9)) ∨
     ((mI M0 3400 a, tA s0 121 n) ∈ onP ∧ ∃ x, tA s0 122 n = nI x ∧ PnR M0 s0 Lf h (mR M0 3405 a) x) ∨
     ((mI M0 3400 a, tA s0 121 n) ∈ twP ∧ (∃ x, tA s0 122 n = nI x ∧ PnR M0 s0 Lf h (mR M0 3405 a) x) ∧ ∃ y, tA s0 123 n = nI y ∧ PnR M0 s0 Lf h (mR M0 3406 a) y) ∨
     ((mI M0 3400 a, tA s0 121 n) ∈ arQ ∧ (∃ x, tA s0 122 n = nI x ∧ PnR M0 s0 Lf h (mR M0 3405 a) x) ∧ ∃ y, tA s0 123 n = nI y ∧ PnR M0 s0 Lf h (mR M0 3406 a) y) ∨
     ((mI M0 3400 a = 14 ∧ tA s0 121 n = 16) ∧ (∃ x, tA s0 122 n = nI x ∧ PnR M0 s0 Lf h (mR M0 3405 a) x) ∧ (∃ y, tA s0 123 n = nI y ∧ PnR M0 s0 Lf h (mR M0 3406 a) y) ∧ ∃ z, tA s0 124 n = nI z ∧ PnR M0 s0 Lf h (mR M0 3407 a) z) ∨
     (((tA s0 121 n = 20 ∨ tA s0 121 n = 25) ∧ (mI M0 3400 a, tA s0 122 n) ∈ rlF) ∧ (∃ x, tA s0 123 n = nI x ∧ PnR M0 s0 Lf h (mR M0 3405 a) x) ∧ ∃ y, tA s0 124 n = nI y ∧ PnR M0 s0 Lf h (mR M0 3406 a) y) ∨
     ((mI M0 3400 a = 29 ∧ tA s0 121 n = 24) ∧ ∃ x y, mI M0 3401 a = nI x ∧ mI M0 3402 a = nI y ∧ tA s0 122 n = nI x ∧ tA s0 123 n = nI y ∧ x < 2147483648 ∧ y < 2147483648))
/-- a leaf prints alike -/
def PlR (M0 : CM) (s0 : TS) (a n : Nat) : Prop := ∀ (kf : Nat) (cfN : Int32 → TS → Option (Unit × TS)) (cfC : Nat → Int32 → Int32 → TS → Option (Unit × TS)) (cfH : Int32 → TS → Option (Unit × TS)) (M : CM) (σ : TS), 1 ≤ kf → OuE M0 s0 M σ → PrJ M σ (KB_X0_put_2 (KG_X0_put_2 kf) a M) (B_printNode cfN cfC cfH (nI n) σ)
section PUT
variable {M0 M M' M1 M2 : CM} {s0 σ σ' σ1 σ2 : TS} {a n q h d j j' kf tf : Nat} {kc : CM → Option (Unit × CM)} {tc : TS → Option (Unit × TS)} {kr : Option (Unit × CM)} {tq : Option (Unit × TS)} {cfK : Nat → CM → Option (Unit × CM)} {cfN : Int32 → TS → Option (Unit × TS)} {cfC : Nat → Int32 → Int32 → TS → Option (Unit × TS)} {cfH : Int32 → TS → Option (Unit × TS)} {Lf : Nat → Nat → Prop} {op : Int32}
/-- nothing is told behind 500 letters -/
theorem PrJ.b9 (o : OuR M σ) (h : PrJ M σ kr tq) : PrJ M σ kr (if tI σ 9 < 500 then tq else some ((), σ)) := by
  by_cases z : tI σ 9 < 500
  · rw [ifT z]; exact h
  · rw [ifF z]
    obtain ⟨n, n1, n2, n3, n4⟩ := o
    have : n = 500 := by
      rw [n3] at z
      by_cases y : n < 500
      · exact absurd ((bI_lt (b := 500) (by omega) (by decide)).mpr y) z
      · omega
    subst this
    obtain ⟨M', σ', e1, e2, ⟨m, m1, m2, m3, m4⟩, k, t⟩ := h
    obtain ⟨n', b1, b2, b3, b4⟩ := t.2.2 500 n3 (Nat.le_refl _)
    have : m = 500 := by
      have : n' = 500 := by omega
      subst this
      exact (bI_eq (by omega) (by decide)).mp (m3.symm.trans b3)
    subst this
    exact ⟨M', σ, e1, rfl, ⟨500, m1, m2, n3, fun i hi => ⟨⟨(m4 i hi).1.1.trans (b4 i hi), by rw [← b4 i hi]; exact (m4 i hi).1.2⟩, by rw [← b4 i hi]; exact (m4 i hi).2⟩⟩, k, OuT.rf⟩
theorem OuQ.go (o : OuQ M0 s0 q M σ) (r : OuR M1 σ1) (k : OuK M M1) (t : OuT σ σ1) : OuQ M0 s0 q M1 σ1 := ⟨o.1.go r k t, t.2.1.1.trans o.2⟩
theorem PrJ.goq (o : OuQ M0 s0 q M σ) (h : PrJ M σ kr tq) (g : ∀ M1 σ1, OuQ M0 s0 q M1 σ1 → PrJ M1 σ1 (kc M1) (tc σ1)) : PrJ M σ (ob kr fun _ M1 => kc M1) (ob tq fun _ s1 => tc s1) := h.seq (fun M1 σ1 r k t => g M1 σ1 (o.go r k t))
theorem OuQ.k18 (o : OuQ M0 s0 q M σ) (h : mk M0 a = 18) : mk M a = 18 := by rw [(o.1.2.1.2.2.2.2.2.1 _).1]; exact h
theorem OuQ.i (o : OuQ M0 s0 q M σ) {g : Nat} (h : g ≠ 3) (a : Nat) : mI M g a = mI M0 g a := o.1.2.1.1 _ _ (fun z => h z.1)
theorem OuQ.r (o : OuQ M0 s0 q M σ) (g a : Nat) : mR M g a = mR M0 g a := o.1.2.1.2.1 _ _
theorem z_qtext (o : OuQ M0 s0 q M σ) (hj : j < 34 ∧ j' < 26 ∧ csB_.getD j [] = tsB_.getD j' []) : PrJ M σ (K_X0_put_3 (2199023255552 + j) M) (F_tellText j' σ) := z_text o.1.1 hj
theorem z_qlet (o : OuQ M0 s0 q M σ) (c : Int32) (hc : LtO c := by decide) : PrJ M σ (K_X0_put c M) (F_letter c σ) := z_letter o.1.1 c hc
theorem z_sgn (o : OuQ M0 s0 q M σ) (hj : j < 34) {c : Int32} (hc : csB_.getD j [] = [c]) : PrJ M σ (K_X0_put_3 (2199023255552 + j) M) (F_letter c σ) := by
  have ok := csB_lt j hj
  rw [hc] at ok
  rw [k_text hj, hc, ← tpL_one]; exact z_list _ M σ ok o.1.1
theorem z_sgn2 (o : OuQ M0 s0 q M σ) (hj : j < 34) {c c' : Int32} (hc : csB_.getD j [] = [c, c']) : PrJ M σ (K_X0_put_3 (2199023255552 + j) M) (ob (F_letter c σ) fun _ s => F_letter c' s) := by
  have ok := csB_lt j hj
  rw [hc] at ok
  rw [k_text hj, hc]
  have := z_list [c, c'] M σ ok o.1.1
  have e : tpL [c, c'] σ = ob (F_letter c σ) fun _ s => F_letter c' s := by
    show (ob (F_letter c σ) fun _ s => ob (F_letter c' s) fun _ s => some ((), s)) = _
    refine ob_cg (fun _ s _ => ob_idu)
  rw [← e]; exact this
/-- with one part: a text ahead, a bracket behind -/
theorem z_pun (o : OuQ M0 s0 q M σ) (ka : mk M0 a = 18) (hn : n < 70000) (hj : j < 34 ∧ j' < 26 ∧ csB_.getD j [] = tsB_.getD j' []) (ih : ∀ M σ, OuQ M0 s0 q M σ → PrJ M σ (cfK (mR M0 3405 a) M) (cfN (tA s0 122 n) σ)) : PrJ M σ (ob (K_X0_put_3 (2199023255552 + j) M) fun _ M1 => if mk M1 a = 18 then ob (cfK (mR M1 3405 a) M1) fun _ M2 => ob (K_X0_put 41 M2) fun _ M3 => some ((), M3) else none) (ob (F_tellText j' σ) fun _ s1 => if inb (nI n) 70000 then ob (cfN (tA s1 122 (ix (nI n))) s1) fun _ s2 => ob (F_letter 41 s2) fun _ s3 => some ((), s3) else none) := by
  refine (z_qtext o hj).goq o (fun M1 σ1 o1 => ?_)
  rw [ifT (o1.k18 ka), o1.r, ifT (inb_nI' hn (by decide)), ix_nI (by omega), o1.1.ta rfl]
  refine (ih M1 σ1 o1).goq o1 (fun M2 σ2 o2 => ?_)
  exact (z_qlet o2 41).goq o2 (fun M3 σ3 o3 => PrJ.rf o3.1.1)
theorem z_pbi (o : OuQ M0 s0 q M σ) (ka : mk M0 a = 18) (hn : n < 70000) (hj : j < 34 ∧ j' < 26 ∧ csB_.getD j [] = tsB_.getD j' []) (ih : ∀ M σ, OuQ M0 s0 q M σ → PrJ M σ (cfK (mR M0 3405 a) M) (cfN (tA s0 122 n) σ)) (ih2 : ∀ M σ, OuQ M0 s0 q M σ → PrJ M σ (cfK (mR M0 3406 a) M) (cfN (tA s0 123 n) σ)) : PrJ M σ (ob (K_X0_put_3 (2199023255552 + j) M) fun _ M1 => if mk M1 a = 18 then ob (cfK (mR M1 3405 a) M1) fun _ M2 => ob (K_X0_put 44 M2) fun _ M3 => if mk M3 a = 18 then ob (cfK (mR M3 3406 a) M3) fun _ M4 => ob (K_X0_put 41 M4) fun _ M5 => some ((), M5) else none else none) (ob (F_tellText j' σ) fun _ s1 => if inb (nI n) 70000 then ob (cfN (tA s1 122 (ix (nI n))) s1) fun _ s2 => ob (F_letter 44 s2) fun _ s3 => if inb (nI n) 70000 then ob (cfN (tA s3 123 (ix (nI n))) s3) fun _ s4 => ob (F_letter 41 s4) fun _ s5 => some ((), s5) else none else none) := by
  refine (z_qtext o hj).goq o (fun M1 σ1 o1 => ?_)
  rw [ifT (o1.k18 ka), o1.r, ifT (inb_nI' hn (by decide)), ix_nI (by omega), o1.1.ta rfl]
  refine (ih M1 σ1 o1).goq o1 (fun M2 σ2 o2 => ?_)
  refine (z_qlet o2 44).goq o2 (fun M3 σ3 o3 => ?_)
  rw [ifT (o3.k18 ka), o3.r, ifT (inb_nI' hn (by decide)), o3.1.ta rfl]
  refine (ih2 M3 σ3 o3).goq o3 (fun M4 σ4 o4 => ?_)
  exact (z_qlet o4 41).goq o4 (fun M5 σ5 o5 => PrJ.rf o5.1.1)
/-- in brackets, a text between -/
theorem z_co (o : OuQ M0 s0 q M σ) (ka : mk M0 a = 18) (hn : n < 70000) (hj : j < 34 ∧ j' < 26 ∧ csB_.getD j [] = tsB_.getD j' []) (he : mI M0 3400 a = op) (hs : ∀ M, K_X0_sign op M = some (2199023255552 + j, M)) (ih : ∀ M σ, OuQ M0 s0 q M σ → PrJ M σ (cfK (mR M0 3405 a) M) (cfN (tA s0 122 n) σ)) (ih2 : ∀ M σ, OuQ M0 s0 q M σ → PrJ M σ (cfK (mR M0 3406 a) M) (cfN (tA s0 123 n) σ)) : PrJ M σ (ob (K_X0_put 40 M) fun _ M1 => if mk M1 a = 18 then ob (cfK (mR M1 3405 a) M1) fun _ M2 => if mk M2 a = 18 then ob (K_X0_sign (mI M2 3400 a) M2) fun r M3 => ob (K_X0_put_3 r M3) fun _ M4 => if mk M4 a = 18 then ob (cfK (mR M4 3406 a) M4) fun _ M5 => ob (K_X0_put 41 M5) fun _ M6 => some ((), M6) else none else none else none) (ob (F_letter 40 σ) fun _ s1 => if inb (nI n) 70000 then ob (cfN (tA s1 122 (ix (nI n))) s1) fun _ s2 => ob (F_tellText j' s2) fun _ s3 => if inb (nI n) 70000 then ob (cfN (tA s3 123 (ix (nI n))) s3) fun _ s4 => ob (F_letter 41 s4) fun _ s5 => some ((), s5) else none else none) := by
  refine (z_qlet o 40).goq o (fun M1 σ1 o1 => ?_)
  rw [ifT (o1.k18 ka), o1.r, ifT (inb_nI' hn (by decide)), ix_nI (by omega), o1.1.ta rfl]
  refine (ih M1 σ1 o1).goq o1 (fun M2 σ2 o2 => ?_)
  rw [ifT (o2.k18 ka), o2.i (by decide), he, hs, ob_some]
  refine (z_qtext o2 hj).goq o2 (fun M3 σ3 o3 => ?_)
  rw [ifT (o3.k18 ka), o3.r, ifT (inb_nI' hn (by decide)), o3.1.ta rfl]
  refine (ih2 M3 σ3 o3).goq o3 (fun M4 σ4 o4 => ?_)
  exact (z_qlet o4 41).goq o4 (fun M5 σ5 o5 => PrJ.rf o5.1.1)
theorem PnR.k (z : PnR M0 s0 Lf h a n) : mk M0 a = 18 ∧ n < 70000 := by
  cases h with
  | zero => exact z.elim
  | succ h => exact z.1
/-- what a tree's parts owe -/
def PuH (M0 : CM) (s0 : TS) (Lf : Nat → Nat → Prop) (d : Nat) : Prop := ∀ (h kf a n q : Nat) (M : CM) (σ : TS), PnR M0 s0 Lf h a n → h < kf → 2 * h < d → q + h ≤ 60000 → OuQ M0 s0 q M σ → PrJ M σ (KG_X0_put_2 kf a M) ((G_printCall d).2.2 (nI n) σ)
/-- sums and products: down the left side, and back -/
theorem z_chain (Z : PuH M0 s0 Lf d) {base : Nat} : ∀ (g kf a n q : Nat) (M : CM) (σ : TS), PnR M0 s0 Lf g a n → g < kf → 2 * g < d + 2 → (¬ (tA s0 121 n = 5 ∨ tA s0 121 n = 6 ∨ tA s0 121 n = 8 ∨ tA s0 121 n = 9) → 2 * g < d) → q + g ≤ 60000 → base ≤ q → OuQ M0 s0 q M σ → ∃ m M' σ', KG_X0_put_2 kf a M = some ((), M') ∧ OuR M' σ' ∧ OuK M M' ∧ OuT σ σ' ∧ m ≤ g ∧ ∀ (f7 f60 : Nat) (v : Int32), g < f7 → (ob (L_printChain_7 (G_printCall d).2.2 f7 v (nI n) σ) fun x s => ob ((G_printCall d).2.2 x s) fun _ s => L_printChain_60 (G_printCall d).2.2 (f60 + m) (nI base) s) = L_printChain_60 (G_printCall d).2.2 f60 (nI base) σ'
  | 0, _, _, _, _, _, _, z, _, _, _, _, _, _ => z.elim
  | g + 1, kf, a, n, q, M, σ, z, hk, hd, hd2, hq, hb, o => by
    obtain ⟨ka, hn⟩ := z.k
    have i70 : inb (nI n) 70000 := inb_nI' hn (by decide)
    have xn : ix (nI n) = n := ix_nI (by omega)
    by_cases ar : tA s0 121 n = 5 ∨ tA s0 121 n = 6 ∨ tA s0 121 n = 8 ∨ tA s0 121 n = 9
    case neg =>
      obtain ⟨M', σ', e1, e2, r, k, t⟩ := Z (g + 1) kf a n q M σ z hk (hd2 ar) hq o
      refine ⟨0, M', σ', e1, r, k, t, Nat.zero_le _, fun f7 f60 v hf => ?_⟩
      obtain ⟨f7, rfl⟩ : ∃ f, f7 = f + 1 := ⟨f7 - 1, by omega⟩
      have na : F_isArithmetic (tA σ 121 n) σ = some (0, σ) := by
        unfold F_isArithmetic
        rw [o.1.ta rfl, ifF (fun y => ar (Or.inl y)), ifF (fun y => ar (Or.inr (Or.inl y))), ifF (fun y => ar (Or.inr (Or.inr (Or.inl y)))), ifF (fun y => ar (Or.inr (Or.inr (Or.inr y))))]
      rw [L_printChain_7, ifT i70, xn, na, ob_some, ifT (rfl : (0 : Int32) = 0), ob_some, e2, ob_some, Nat.add_zero]
    case pos =>
      -- a sum or a product
      obtain ⟨hop, ⟨x, x1, x2⟩, y, y1, y2⟩ : (mI M0 3400 a, tA s0 121 n) ∈ arQ ∧ (∃ x, tA s0 122 n = nI x ∧ PnR M0 s0 Lf g (mR M0 3405 a) x) ∧ ∃ y, tA s0 123 n = nI y ∧ PnR M0 s0 Lf g (mR M0 3406 a) y := by
        obtain ⟨-, z⟩ := z
        have no : ∀ {P : Prop} {c : Int32}, tA s0 121 n = c → (c ≠ 5 ∧ c ≠ 6 ∧ c ≠ 8 ∧ c ≠ 9) → P := fun e ⟨c1, c2, c3, c4⟩ => by
          exfalso
          rw [e] at ar
          rcases ar with y | y | y | y
          · exact c1 y
          · exact c2 y
          · exact c3 y
          · exact c4 y
        rcases z with ⟨-, z⟩ | ⟨z, -⟩ | ⟨z, -⟩ | z | ⟨⟨-, z⟩, -⟩ | ⟨⟨z | z, -⟩, -⟩ | ⟨⟨-, z⟩, -⟩
        · exact absurd ar z
        · simp only [List.mem_cons, List.not_mem_nil, or_false, Prod.mk.injEq] at z
          rcases z with ⟨-, z⟩ | ⟨-, z⟩ | ⟨-, z⟩ | ⟨-, z⟩ | ⟨-, z⟩ | ⟨-, z⟩ <;> exact no z (by decide)
        · simp only [List.mem_cons, List.not_mem_nil, or_false, Prod.mk.injEq] at z
          rcases z with ⟨-, z⟩ | ⟨-, z⟩ | ⟨-, z⟩ | ⟨-, z⟩ <;> exact no z (by decide)
        · exact z
        · exact no z (by decide)
        · exact no z (by decide)
        · exact no z (by decide)
        · exact no z (by decide)
      obtain ⟨kf, rfl⟩ : ∃ f, kf = f + 1 := ⟨kf - 1, by omega⟩
      have ya : F_isArithmetic (tA σ 121 n) σ = some (1, σ) := by
        unfold F_isArithmetic
        rw [o.1.ta rfl]
        rcases ar with e | e | e | e <;> rw [e] <;> simp +decide only [↓reduceIte]
      -- the component: its sign
      obtain ⟨j, c, hj, hc, hs, hl⟩ : ∃ j c, j < 34 ∧ csB_.getD j [] = [c] ∧ (∀ M, K_X0_sign (mI M0 3400 a) M = some (2199023255552 + j, M)) ∧ ((tA s0 121 n = 5 ∧ c = 43) ∨ (tA s0 121 n = 6 ∧ c = 45) ∨ (tA s0 121 n = 8 ∧ c = 42) ∨ (tA s0 121 n = 9 ∧ c = 47)) := by
        simp only [List.mem_cons, List.not_mem_nil, or_false, Prod.mk.injEq] at hop
        rcases hop with ⟨e, e'⟩ | ⟨e, e'⟩ | ⟨e, e'⟩ | ⟨e, e'⟩ <;> rw [e]
        · exact ⟨0, 43, by decide, rfl, fun M => rfl, Or.inl ⟨e', rfl⟩⟩
        · exact ⟨1, 45, by decide, rfl, fun M => rfl, Or.inr (Or.inl ⟨e', rfl⟩)⟩
        · exact ⟨2, 42, by decide, rfl, fun M => rfl, Or.inr (Or.inr (Or.inl ⟨e', rfl⟩))⟩
        · exact ⟨3, 47, by decide, rfl, fun M => rfl, Or.inr (Or.inr (Or.inr ⟨e', rfl⟩))⟩
      have kb : KG_X0_put_2 (kf + 1) a M = ob (K_X0_put 40 M) fun _ M1 => if mk M1 a = 18 then ob (KG_X0_put_2 kf (mR M1 3405 a) M1) fun _ M2 => if mk M2 a = 18 then ob (K_X0_sign (mI M2 3400 a) M2) fun r M3 => ob (K_X0_put_3 r M3) fun _ M4 => if mk M4 a = 18 then ob (KG_X0_put_2 kf (mR M4 3406 a) M4) fun _ M5 => ob (K_X0_put 41 M5) fun _ M6 => some ((), M6) else none else none else none := by
        show KB_X0_put_2 (KG_X0_put_2 kf) a M = _
        unfold KB_X0_put_2
        rw [ifT (o.k18 ka), o.i (by decide)]
        simp only [List.mem_cons, List.not_mem_nil, or_false, Prod.mk.injEq] at hop
        rcases hop with ⟨e, -⟩ | ⟨e, -⟩ | ⟨e, -⟩ | ⟨e, -⟩ <;> rw [e] <;> simp +decide only [↓reduceIte]
      -- the stack
      obtain ⟨s1, hs1⟩ : ∃ s1, s1 = tsI (tsA σ 170 q (nI n)) 171 (nI (q + 1)) := ⟨_, rfl⟩
      have f1 : Ft [170, 171] σ s1 := by rw [hs1]; exact ((Ft.rf _ σ).p_tsA rfl).p_tsI rfl
      have r1 : OuR M s1 := by
        obtain ⟨m, m1, m2, m3, m4⟩ := o.1.1
        exact ⟨m, m1, m2, (f1 9 rfl).1.trans m3, fun i hi => by rw [(f1 6 rfl).2.2.1]; exact m4 i hi⟩
      have o1 : OuQ M0 s0 (q + 1) M s1 := ⟨⟨r1, o.1.2.1, o.1.2.2.tr (f1.mono (by decide))⟩, by rw [hs1]; rfl⟩
      obtain ⟨M1, s2, a1, a2, r2, k2, t2⟩ := z_qlet o1 40
      have o2 := o1.go r2 k2 t2
      obtain ⟨m, M3, s3, b1, r3, k3, t3, bm, b2⟩ := z_chain Z (base := base) g kf (mR M0 3405 a) x (q + 1) M1 s2 x2 (by omega) (by omega) (fun _ => by omega) (by omega) (by omega) o2
      have o3 := o2.go r3 k3 t3
      -- back
      obtain ⟨s4, hs4⟩ : ∃ s4, s4 = tsI s3 171 (nI q) := ⟨_, rfl⟩
      have f4 : Ft [171] s3 s4 := by rw [hs4]; exact (Ft.rf _ s3).p_tsI rfl
      have r4 : OuR M3 s4 := by
        obtain ⟨m, m1, m2, m3, m4⟩ := r3
        exact ⟨m, m1, m2, (f4 9 rfl).1.trans m3, fun i hi => by rw [(f4 6 rfl).2.2.1]; exact m4 i hi⟩
      have o4 : OuQ M0 s0 q M3 s4 := ⟨⟨r4, o3.1.2.1, o3.1.2.2.tr (f4.mono (by decide))⟩, by rw [hs4]; rfl⟩
      have top : tA s4 170 q = nI n := by
        rw [(f4 170 rfl).2.2.1, t3.2.1.2 (q + 1) q (by omega) o2.2 (by omega), t2.2.1.2 (q + 1) q (by omega) o1.2 (by omega), hs1]
        show tA (tsA σ 170 q (nI n)) 170 q = nI n
        rw [tA_tsA, ifT ⟨rfl, rfl⟩]
      obtain ⟨M5, s5, c1, c2, r5, k5, t5⟩ := z_sgn (j := j) o4 hj hc
      have o5 := o4.go r5 k5 t5
      obtain ⟨M6, s6, d1, d2, r6, k6, t6⟩ := Z g kf (mR M0 3406 a) y q M5 s5 y2 (by omega) (by omega) (by omega) o5
      have o6 := o5.go r6 k6 t6
      obtain ⟨M7, s7, g1, g2, r7, k7, t7⟩ := z_qlet o6 41
      have T : OuT σ s7 := by
        refine ⟨((((f1.mono (by decide)).tr t2.1).tr t3.1).tr (f4.mono (by decide))).tr ((t5.1.tr t6.1).tr t7.1), ⟨?_, fun dd i hdd e hi => ?_⟩, fun l e hl => ?_⟩
        · rw [t7.2.1.1, t6.2.1.1, t5.2.1.1, o4.2, o.2]
        · have : dd = q := (bI_eq hdd (by omega)).mp (e.symm.trans o.2)
          subst this
          rw [t7.2.1.2 dd i hdd o6.2 hi, t6.2.1.2 dd i hdd o5.2 hi, t5.2.1.2 dd i hdd o4.2 hi, (f4 170 rfl).2.2.1, t3.2.1.2 (dd + 1) i (by omega) o2.2 (by omega), t2.2.1.2 (dd + 1) i (by omega) o1.2 (by omega), hs1]
          show tA (tsA σ 170 dd (nI n)) 170 i = _
          rw [tA_tsA, ifF (fun y => by have := y.2; omega)]
        · obtain ⟨l1, p1, p2, p3, p4⟩ := t2.2.2 l ((f1 9 rfl).1.trans e) hl
          obtain ⟨l2, q1, q2, q3, q4⟩ := t3.2.2 l1 p3 p2
          obtain ⟨l3, u1, u2, u3, u4⟩ := t5.2.2 l2 ((f4 9 rfl).1.trans q3) q2
          obtain ⟨l4, v1, v2, v3, v4⟩ := t6.2.2 l3 u3 u2
          obtain ⟨l5, w1, w2, w3, w4⟩ := t7.2.2 l4 v3 v2
          exact ⟨l5, by omega, w2, w3, fun i hi => by rw [w4 i (by omega), v4 i (by omega), u4 i (by omega), (f4 6 rfl).2.2.1, q4 i (by omega), p4 i hi, (f1 6 rfl).2.2.1]⟩
      refine ⟨m + 1, M7, s7, ?_, r7, ((k2.tr k3).tr k5).tr (k6.tr k7), T, by omega, fun f7 f60 v hf => ?_⟩
      · rw [kb, a1, ob_some, ifT (o2.k18 ka), o2.r, b1, ob_some, ifT (o4.k18 ka), o4.i (by decide), hs, ob_some, c1, ob_some, ifT (o5.k18 ka), o5.r, d1, ob_some, g1, ob_some]
      · obtain ⟨f7, rfl⟩ : ∃ f, f7 = f + 1 := ⟨f7 - 1, by omega⟩
        have i171 : inb (nI q) 70000 := inb_nI' (by omega) (by decide)
        have e171 : tI (tsA σ 170 q (nI n)) 171 = nI q := o.2
        have step : L_printChain_7 (G_printCall d).2.2 (f7 + 1) v (nI n) σ = L_printChain_7 (G_printCall d).2.2 f7 v (nI x) s2 := by
          rw [L_printChain_7, ifT i70, xn, ya, ob_some, ifF (by decide : ¬ (1 : Int32) = 0), o.2, ifT i171, ix_nI (by omega), nm_eq, e171, nI_addL, nm_eq, ← hs1, a2, ob_some, ifT i70, nm_eq, o2.1.ta rfl, x1]
        rw [step, show f60 + (m + 1) = (f60 + 1) + m by omega, b2 f7 (f60 + 1) v (by omega), L_printChain_60, o3.2, ifF (fun z => by have := (bI_le (by omega) (by omega)).mp z; omega), nI_subL _ _ (by show 1 ≤ q + 1; omega), nm_eq, show q + 1 - OfNat.ofNat 1 = q by rfl, ← hs4, o4.2, ifT i171, ix_nI (by omega), top, nm_eq, ifT i70, xn, o4.1.ta rfl, nm_eq]
        have fin : ∀ (c' : Int32), c' = c → (ob (F_letter c' s4) fun _ s70 => if inb (nI n) 70000 then ob ((G_printCall d).2.2 (tA s70 123 n) s70) fun _ s75 => ob (F_letter 41 s75) fun _ s79 => L_printChain_60 (G_printCall d).2.2 f60 (nI base) s79 else none) = L_printChain_60 (G_printCall d).2.2 f60 (nI base) s7 := fun c' e => by
          rw [e, c2, ob_some, ifT i70, o5.1.ta rfl, y1, d2, ob_some, g2, ob_some]
        rcases hl with ⟨e, e'⟩ | ⟨e, e'⟩ | ⟨e, e'⟩ | ⟨e, e'⟩ <;> rw [e]
        · rw [ifT (rfl : (5 : Int32) = 5)]; exact fin 43 e'.symm
        · rw [ifF (by decide : ¬ (6 : Int32) = 5), ifT (rfl : (6 : Int32) = 6)]; exact fin 45 e'.symm
        · rw [ifF (by decide : ¬ (8 : Int32) = 5), ifF (by decide : ¬ (8 : Int32) = 6), ifT (rfl : (8 : Int32) = 8)]; exact fin 42 e'.symm
        · rw [ifF (by decide : ¬ (9 : Int32) = 5), ifF (by decide : ¬ (9 : Int32) = 6), ifF (by decide : ¬ (9 : Int32) = 8)]; exact fin 47 e'.symm
end PUT
