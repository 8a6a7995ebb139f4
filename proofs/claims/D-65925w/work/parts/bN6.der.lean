/-! Layer B: the flat model: does a tree hold der of a variable -/
set_option maxRecDepth 100000
section HASDER
variable {zb zb' : Nat} {fx : Int32} {C : PC} {D D' D1 D2 : FQ} {M M' M1 M2 M3 M0 : CM} {σ σ' σ1 σ2 σ0 s1 s8 : TS} {mss fss : List Nat} {B V I Bm K N K' N' E A Wn E' A' A0 Wn' v l k x0 dc md X N0 Lp Lp' w d s i nf R a f h1 h2 eq L x : Nat} {os : List Nat} {P T Y : Nat → Prop} {x2 x3 x3' x4 y r kd : Int32} {z7 : Nat → Nat} {S : List Nat}
def b1 (p : Bool) : Int32 := if p then 1 else 0
theorem b1_0 {p : Bool} : (b1 p = 0) ↔ p = false := by cases p <;> decide
/-- the component's answer -/
def HdK (M : CM) (x : Int32) (h a : Nat) (p : Bool) : Prop := ∀ kf, h < kf → KG_X0_hasDer kf a x M = some (b1 p, M)
/-- the twin's -/
def HdL (σ : TS) (x : Int32) (h n : Nat) (p : Bool) : Prop := ∀ tf f, h ≤ tf + 1 → h < f → ∃ y, L_hasDer_2 (G_hasDer tf) f x (nI n) σ = some (y, σ) ∧ ((p = true ∧ y = .inr 1) ∨ (p = false ∧ (y = .inl () ∨ y = .inr 0)))
theorem HdL.g {x : Int32} {h n : Nat} {p : Bool} (H : HdL σ x h n p) (hh : h ≤ 100) : ∀ tf, h ≤ tf → 1 ≤ tf → G_hasDer tf (nI n) x σ = some (b1 p, σ) := fun tf h1 h2 => by
  obtain ⟨tf, rfl⟩ : ∃ g, tf = g + 1 := ⟨tf - 1, by omega⟩
  have hFU : 100 < FU := by unfold FU; decide
  obtain ⟨y, a1, a2⟩ := H tf FU (by omega) (by omega)
  show B_hasDer (G_hasDer tf) (nI n) x σ = _
  unfold B_hasDer
  rw [a1]
  rcases a2 with ⟨rfl, rfl⟩ | ⟨rfl, rfl | rfl⟩
  · rw [obS_inr]; rfl
  · rw [obS_inl]; rfl
  · rw [obS_inr]; rfl
theorem hk0 {x : Int32} {h : Nat} : HdK M x h 0 false := fun kf hk => by
  obtain ⟨kf, rfl⟩ : ∃ g, kf = g + 1 := ⟨kf - 1, by omega⟩
  show KB_X0_hasDer (KG_X0_hasDer kf) 0 x M = _
  unfold KB_X0_hasDer
  rw [ifT (rfl : (0 : Nat) = 0)]; rfl
theorem hk_21 {x : Int32} {h a : Nat} {p1 p2 p3 : Bool} (ka : mk M a = 18) (g1 : HdK M x h (mR M 3405 a) p1) (g2 : HdK M x h (mR M 3406 a) p2) (g3 : HdK M x h (mR M 3407 a) p3) {kf : Nat} (hk : h < kf) : KJ_X0_hasDer_21 (KG_X0_hasDer kf) a x M = some (b1 (p1 || p2 || p3), M) := by
  unfold KJ_X0_hasDer_21
  rw [ifT ka, g1 kf hk, ob_some]
  cases p1
  · rw [ifT (show b1 false = 0 from rfl), ifT ka, g2 kf hk, ob_some]
    cases p2
    · rw [ifT (show b1 false = 0 from rfl), ifT ka, g3 kf hk, ob_some]
      cases p3
      · rw [ifT (show b1 false = 0 from rfl)]; rfl
      · rw [ifF (show ¬ b1 true = 0 by decide)]; rfl
    · rw [ifF (show ¬ b1 true = 0 by decide)]; rfl
  · rw [ifF (show ¬ b1 true = 0 by decide)]; rfl
theorem hk_o {x : Int32} {h a : Nat} {p1 p2 p3 : Bool} (a0 : a ≠ 0) (ka : mk M a = 18) (hop : ¬ mI M 3400 a = 15) (g1 : HdK M x h (mR M 3405 a) p1) (g2 : HdK M x h (mR M 3406 a) p2) (g3 : HdK M x h (mR M 3407 a) p3) : HdK M x (h + 1) a (p1 || p2 || p3) := fun kf hk => by
  obtain ⟨kf, rfl⟩ : ∃ g, kf = g + 1 := ⟨kf - 1, by omega⟩
  show KB_X0_hasDer (KG_X0_hasDer kf) a x M = _
  unfold KB_X0_hasDer
  rw [ifF a0, ifT ka, ifF hop]
  exact hk_21 ka g1 g2 g3 (by omega)
theorem hl_two {x : Int32} {h n c1 c2 : Nat} {p1 p2 : Bool} (hn : n ≠ 0 ∧ n < 70000) (hop : tA σ 121 n = 5 ∨ tA σ 121 n = 6 ∨ tA σ 121 n = 8 ∨ tA σ 121 n = 9 ∨ tA σ 121 n = 14 ∨ tA σ 121 n = 15 ∨ tA σ 121 n = 21 ∨ tA σ 121 n = 22) (e1 : tA σ 122 n = nI c1) (e2 : tA σ 123 n = nI c2) (hh : h ≤ 100) (h1 : 1 ≤ h) (g1 : HdL σ x h c1 p1) (g2 : HdL σ x h c2 p2) : HdL σ x (h + 1) n (p1 || p2) := fun tf f ht hf => by
  obtain ⟨f, rfl⟩ : ∃ g, f = g + 1 := ⟨f - 1, by omega⟩
  have inn : inb (nI n) 70000 := inb_nI' hn.2 (by decide)
  have xn : ix (nI n) = n := ix_nI (by omega)
  have n0 : ¬ nI n = 0 := fun z => hn.1 ((bI_eq (b := 0) (by omega) (by decide)).mp z)
  obtain ⟨y, a1, a2⟩ := g1 tf f (by omega) (by omega)
  have gg := g2.g hh tf (by omega) (by omega)
  have st : J_hasDer_91_2 (G_hasDer tf) (L_hasDer_2 (G_hasDer tf) f) x (nI n) σ = some (if p2 = true then .inr 1 else y, σ) := by
    unfold J_hasDer_91_2
    rw [ifT inn, xn, e2, gg, ob_some]
    cases p2
    · rw [ifT (show b1 false = 0 from rfl), ifT inn, e1, nm_eq, a1]; rfl
    · rw [ifF (show ¬ b1 true = 0 by decide)]; rfl
  refine ⟨if p2 = true then .inr 1 else y, ?_, ?_⟩
  · rw [← st]
    conv => lhs; unfold L_hasDer_2
    rw [ifF n0, ifT inn, nm_eq, xn]
    rcases hop with q | q | q | q | q | q | q | q
    · rw [q, ifF (show ¬ (5 : Int32) = 3 by decide), ifT (rfl : (5 : Int32) = 5)]
    · rw [q, ifF (show ¬ (6 : Int32) = 3 by decide), ifF (show ¬ (6 : Int32) = 5 by decide), ifT (rfl : (6 : Int32) = 6)]
    · rw [q, ifF (show ¬ (8 : Int32) = 3 by decide), ifF (show ¬ (8 : Int32) = 5 by decide), ifF (show ¬ (8 : Int32) = 6 by decide), ifT (rfl : (8 : Int32) = 8)]
    · rw [q, ifF (show ¬ (9 : Int32) = 3 by decide), ifF (show ¬ (9 : Int32) = 5 by decide), ifF (show ¬ (9 : Int32) = 6 by decide), ifF (show ¬ (9 : Int32) = 8 by decide), ifT (rfl : (9 : Int32) = 9)]
    · rw [q, ifF (show ¬ (14 : Int32) = 3 by decide), ifF (show ¬ (14 : Int32) = 5 by decide), ifF (show ¬ (14 : Int32) = 6 by decide), ifF (show ¬ (14 : Int32) = 8 by decide), ifF (show ¬ (14 : Int32) = 9 by decide), ifT (rfl : (14 : Int32) = 14)]
    · rw [q, ifF (show ¬ (15 : Int32) = 3 by decide), ifF (show ¬ (15 : Int32) = 5 by decide), ifF (show ¬ (15 : Int32) = 6 by decide), ifF (show ¬ (15 : Int32) = 8 by decide), ifF (show ¬ (15 : Int32) = 9 by decide), ifF (show ¬ (15 : Int32) = 14 by decide), ifT (rfl : (15 : Int32) = 15)]
    · rw [q, ifF (show ¬ (21 : Int32) = 3 by decide), ifF (show ¬ (21 : Int32) = 5 by decide), ifF (show ¬ (21 : Int32) = 6 by decide), ifF (show ¬ (21 : Int32) = 8 by decide), ifF (show ¬ (21 : Int32) = 9 by decide), ifF (show ¬ (21 : Int32) = 14 by decide), ifF (show ¬ (21 : Int32) = 15 by decide), ifT (rfl : (21 : Int32) = 21)]
    · rw [q, ifF (show ¬ (22 : Int32) = 3 by decide), ifF (show ¬ (22 : Int32) = 5 by decide), ifF (show ¬ (22 : Int32) = 6 by decide), ifF (show ¬ (22 : Int32) = 8 by decide), ifF (show ¬ (22 : Int32) = 9 by decide), ifF (show ¬ (22 : Int32) = 14 by decide), ifF (show ¬ (22 : Int32) = 15 by decide), ifF (show ¬ (22 : Int32) = 21 by decide), ifT (rfl : (22 : Int32) = 22)]
  · cases p2
    · rcases a2 with ⟨rfl, rfl⟩ | ⟨rfl, q⟩
      · exact Or.inl ⟨rfl, rfl⟩
      · exact Or.inr ⟨rfl, q⟩
    · cases p1
      · exact Or.inl ⟨rfl, rfl⟩
      · exact Or.inl ⟨rfl, rfl⟩
theorem hl_un {x : Int32} {h n c1 : Nat} {p1 : Bool} (hn : n ≠ 0 ∧ n < 70000) (hop : tA σ 121 n = 7 ∨ tA σ 121 n = 10 ∨ tA σ 121 n = 11 ∨ tA σ 121 n = 12 ∨ tA σ 121 n = 13 ∨ tA σ 121 n = 23) (e1 : tA σ 122 n = nI c1) (g1 : HdL σ x h c1 p1) : HdL σ x (h + 1) n p1 := fun tf f ht hf => by
  obtain ⟨f, rfl⟩ : ∃ g, f = g + 1 := ⟨f - 1, by omega⟩
  have inn : inb (nI n) 70000 := inb_nI' hn.2 (by decide)
  have xn : ix (nI n) = n := ix_nI (by omega)
  have n0 : ¬ nI n = 0 := fun z => hn.1 ((bI_eq (b := 0) (by omega) (by decide)).mp z)
  obtain ⟨y, a1, a2⟩ := g1 tf f (by omega) (by omega)
  refine ⟨y, ?_, a2⟩
  rw [← a1]
  conv => lhs; unfold L_hasDer_2
  rw [ifF n0, ifT inn, nm_eq, xn]
  rcases hop with q | q | q | q | q | q
  · rw [q, ifF (show ¬ (7 : Int32) = 3 by decide), ifF (show ¬ (7 : Int32) = 5 by decide), ifF (show ¬ (7 : Int32) = 6 by decide), ifF (show ¬ (7 : Int32) = 8 by decide), ifF (show ¬ (7 : Int32) = 9 by decide), ifF (show ¬ (7 : Int32) = 14 by decide), ifF (show ¬ (7 : Int32) = 15 by decide), ifF (show ¬ (7 : Int32) = 21 by decide), ifF (show ¬ (7 : Int32) = 22 by decide), ifT (rfl : (7 : Int32) = 7), ifT inn, e1, nm_eq]
  · rw [q, ifF (show ¬ (10 : Int32) = 3 by decide), ifF (show ¬ (10 : Int32) = 5 by decide), ifF (show ¬ (10 : Int32) = 6 by decide), ifF (show ¬ (10 : Int32) = 8 by decide), ifF (show ¬ (10 : Int32) = 9 by decide), ifF (show ¬ (10 : Int32) = 14 by decide), ifF (show ¬ (10 : Int32) = 15 by decide), ifF (show ¬ (10 : Int32) = 21 by decide), ifF (show ¬ (10 : Int32) = 22 by decide), ifF (show ¬ (10 : Int32) = 7 by decide), ifT (rfl : (10 : Int32) = 10), ifT inn, e1, nm_eq]
  · rw [q, ifF (show ¬ (11 : Int32) = 3 by decide), ifF (show ¬ (11 : Int32) = 5 by decide), ifF (show ¬ (11 : Int32) = 6 by decide), ifF (show ¬ (11 : Int32) = 8 by decide), ifF (show ¬ (11 : Int32) = 9 by decide), ifF (show ¬ (11 : Int32) = 14 by decide), ifF (show ¬ (11 : Int32) = 15 by decide), ifF (show ¬ (11 : Int32) = 21 by decide), ifF (show ¬ (11 : Int32) = 22 by decide), ifF (show ¬ (11 : Int32) = 7 by decide), ifF (show ¬ (11 : Int32) = 10 by decide), ifT (rfl : (11 : Int32) = 11), ifT inn, e1, nm_eq]
  · rw [q, ifF (show ¬ (12 : Int32) = 3 by decide), ifF (show ¬ (12 : Int32) = 5 by decide), ifF (show ¬ (12 : Int32) = 6 by decide), ifF (show ¬ (12 : Int32) = 8 by decide), ifF (show ¬ (12 : Int32) = 9 by decide), ifF (show ¬ (12 : Int32) = 14 by decide), ifF (show ¬ (12 : Int32) = 15 by decide), ifF (show ¬ (12 : Int32) = 21 by decide), ifF (show ¬ (12 : Int32) = 22 by decide), ifF (show ¬ (12 : Int32) = 7 by decide), ifF (show ¬ (12 : Int32) = 10 by decide), ifF (show ¬ (12 : Int32) = 11 by decide), ifT (rfl : (12 : Int32) = 12), ifT inn, e1, nm_eq]
  · rw [q, ifF (show ¬ (13 : Int32) = 3 by decide), ifF (show ¬ (13 : Int32) = 5 by decide), ifF (show ¬ (13 : Int32) = 6 by decide), ifF (show ¬ (13 : Int32) = 8 by decide), ifF (show ¬ (13 : Int32) = 9 by decide), ifF (show ¬ (13 : Int32) = 14 by decide), ifF (show ¬ (13 : Int32) = 15 by decide), ifF (show ¬ (13 : Int32) = 21 by decide), ifF (show ¬ (13 : Int32) = 22 by decide), ifF (show ¬ (13 : Int32) = 7 by decide), ifF (show ¬ (13 : Int32) = 10 by decide), ifF (show ¬ (13 : Int32) = 11 by decide), ifF (show ¬ (13 : Int32) = 12 by decide), ifT (rfl : (13 : Int32) = 13), ifT inn, e1, nm_eq]
  · rw [q, ifF (show ¬ (23 : Int32) = 3 by decide), ifF (show ¬ (23 : Int32) = 5 by decide), ifF (show ¬ (23 : Int32) = 6 by decide), ifF (show ¬ (23 : Int32) = 8 by decide), ifF (show ¬ (23 : Int32) = 9 by decide), ifF (show ¬ (23 : Int32) = 14 by decide), ifF (show ¬ (23 : Int32) = 15 by decide), ifF (show ¬ (23 : Int32) = 21 by decide), ifF (show ¬ (23 : Int32) = 22 by decide), ifF (show ¬ (23 : Int32) = 7 by decide), ifF (show ¬ (23 : Int32) = 10 by decide), ifF (show ¬ (23 : Int32) = 11 by decide), ifF (show ¬ (23 : Int32) = 12 by decide), ifF (show ¬ (23 : Int32) = 13 by decide), ifT (rfl : (23 : Int32) = 23), ifT inn, e1, nm_eq]
theorem hl_if {x : Int32} {h n c1 c2 c3 : Nat} {p1 p2 p3 : Bool} (hn : n ≠ 0 ∧ n < 70000) (hop : tA σ 121 n = 16) (e1 : tA σ 122 n = nI c1) (e2 : tA σ 123 n = nI c2) (e3 : tA σ 124 n = nI c3) (hh : h ≤ 100) (h1 : 1 ≤ h) (g1 : HdL σ x h c1 p1) (g2 : HdL σ x h c2 p2) (g3 : HdL σ x h c3 p3) : HdL σ x (h + 1) n (p1 || p2 || p3) := fun tf f ht hf => by
  obtain ⟨f, rfl⟩ : ∃ g, f = g + 1 := ⟨f - 1, by omega⟩
  have inn : inb (nI n) 70000 := inb_nI' hn.2 (by decide)
  have xn : ix (nI n) = n := ix_nI (by omega)
  have n0 : ¬ nI n = 0 := fun z => hn.1 ((bI_eq (b := 0) (by omega) (by decide)).mp z)
  obtain ⟨y, a1, a2⟩ := g3 tf f (by omega) (by omega)
  have gg1 := g1.g hh tf (by omega) (by omega)
  have gg2 := g2.g hh tf (by omega) (by omega)
  have st : L_hasDer_2 (G_hasDer tf) (f + 1) x (nI n) σ = some (if (p1 || p2) = true then .inr 1 else y, σ) := by
    conv => lhs; unfold L_hasDer_2
    rw [ifF n0, ifT inn, nm_eq, xn, hop, ifF (show ¬ (16 : Int32) = 3 by decide), ifF (show ¬ (16 : Int32) = 5 by decide), ifF (show ¬ (16 : Int32) = 6 by decide), ifF (show ¬ (16 : Int32) = 8 by decide), ifF (show ¬ (16 : Int32) = 9 by decide), ifF (show ¬ (16 : Int32) = 14 by decide), ifF (show ¬ (16 : Int32) = 15 by decide), ifF (show ¬ (16 : Int32) = 21 by decide), ifF (show ¬ (16 : Int32) = 22 by decide), ifF (show ¬ (16 : Int32) = 7 by decide), ifF (show ¬ (16 : Int32) = 10 by decide), ifF (show ¬ (16 : Int32) = 11 by decide), ifF (show ¬ (16 : Int32) = 12 by decide), ifF (show ¬ (16 : Int32) = 13 by decide), ifF (show ¬ (16 : Int32) = 23 by decide), ifT (rfl : (16 : Int32) = 16), ifT inn, e1, gg1, ob_some]
    cases p1
    · rw [ifT (show b1 false = 0 from rfl), ifT inn, e2, gg2, ob_some]
      cases p2
      · rw [ifT (show b1 false = 0 from rfl), ifT inn, e3, nm_eq, a1]; rfl
      · rw [ifF (show ¬ b1 true = 0 by decide)]; rfl
    · rw [ifF (show ¬ b1 true = 0 by decide)]; rfl
  refine ⟨_, st, ?_⟩
  cases p1 <;> cases p2
  · rcases a2 with ⟨rfl, rfl⟩ | ⟨rfl, q⟩
    · exact Or.inl ⟨rfl, rfl⟩
    · exact Or.inr ⟨rfl, q⟩
  · exact Or.inl ⟨rfl, rfl⟩
  · exact Or.inl ⟨rfl, rfl⟩
  · exact Or.inl ⟨rfl, rfl⟩
theorem hl_rl {x : Int32} {h n c1 c2 : Nat} {p1 p2 : Bool} (hn : n ≠ 0 ∧ n < 70000) (hop : tA σ 121 n = 20) (e1 : tA σ 123 n = nI c1) (e2 : tA σ 124 n = nI c2) (hh : h ≤ 100) (h1 : 1 ≤ h) (g1 : HdL σ x h c1 p1) (g2 : HdL σ x h c2 p2) : HdL σ x (h + 1) n (p1 || p2) := fun tf f ht hf => by
  obtain ⟨f, rfl⟩ : ∃ g, f = g + 1 := ⟨f - 1, by omega⟩
  have inn : inb (nI n) 70000 := inb_nI' hn.2 (by decide)
  have xn : ix (nI n) = n := ix_nI (by omega)
  have n0 : ¬ nI n = 0 := fun z => hn.1 ((bI_eq (b := 0) (by omega) (by decide)).mp z)
  obtain ⟨y, a1, a2⟩ := g2 tf f (by omega) (by omega)
  have gg1 := g1.g hh tf (by omega) (by omega)
  have st : L_hasDer_2 (G_hasDer tf) (f + 1) x (nI n) σ = some (if p1 = true then .inr 1 else y, σ) := by
    conv => lhs; unfold L_hasDer_2
    rw [ifF n0, ifT inn, nm_eq, xn, hop, ifF (show ¬ (20 : Int32) = 3 by decide), ifF (show ¬ (20 : Int32) = 5 by decide), ifF (show ¬ (20 : Int32) = 6 by decide), ifF (show ¬ (20 : Int32) = 8 by decide), ifF (show ¬ (20 : Int32) = 9 by decide), ifF (show ¬ (20 : Int32) = 14 by decide), ifF (show ¬ (20 : Int32) = 15 by decide), ifF (show ¬ (20 : Int32) = 21 by decide), ifF (show ¬ (20 : Int32) = 22 by decide), ifF (show ¬ (20 : Int32) = 7 by decide), ifF (show ¬ (20 : Int32) = 10 by decide), ifF (show ¬ (20 : Int32) = 11 by decide), ifF (show ¬ (20 : Int32) = 12 by decide), ifF (show ¬ (20 : Int32) = 13 by decide), ifF (show ¬ (20 : Int32) = 23 by decide), ifF (show ¬ (20 : Int32) = 16 by decide), ifT (rfl : (20 : Int32) = 20), ifT inn, e1, gg1, ob_some]
    cases p1
    · rw [ifT (show b1 false = 0 from rfl), ifT inn, e2, nm_eq, a1]; rfl
    · rw [ifF (show ¬ b1 true = 0 by decide)]; rfl
  refine ⟨_, st, ?_⟩
  cases p1
  · rcases a2 with ⟨rfl, rfl⟩ | ⟨rfl, q⟩
    · exact Or.inl ⟨rfl, rfl⟩
    · exact Or.inr ⟨rfl, q⟩
  · exact Or.inl ⟨rfl, rfl⟩
theorem hl_lf {x : Int32} {h n : Nat} (hn : n ≠ 0 ∧ n < 70000) (hop : tA σ 121 n = 0 ∨ tA σ 121 n = 1 ∨ tA σ 121 n = 2 ∨ tA σ 121 n = 4 ∨ tA σ 121 n = 24) : HdL σ x (h + 1) n false := fun tf f ht hf => by
  obtain ⟨f, rfl⟩ : ∃ g, f = g + 1 := ⟨f - 1, by omega⟩
  have inn : inb (nI n) 70000 := inb_nI' hn.2 (by decide)
  have xn : ix (nI n) = n := ix_nI (by omega)
  have n0 : ¬ nI n = 0 := fun z => hn.1 ((bI_eq (b := 0) (by omega) (by decide)).mp z)
  refine ⟨.inr 0, ?_, Or.inr ⟨rfl, Or.inr rfl⟩⟩
  unfold L_hasDer_2
  rw [ifF n0, ifT inn, nm_eq, xn]
  rcases hop with q | q | q | q | q
  · rw [q, ifF (show ¬ (0 : Int32) = 3 by decide), ifF (show ¬ (0 : Int32) = 5 by decide), ifF (show ¬ (0 : Int32) = 6 by decide), ifF (show ¬ (0 : Int32) = 8 by decide), ifF (show ¬ (0 : Int32) = 9 by decide), ifF (show ¬ (0 : Int32) = 14 by decide), ifF (show ¬ (0 : Int32) = 15 by decide), ifF (show ¬ (0 : Int32) = 21 by decide), ifF (show ¬ (0 : Int32) = 22 by decide), ifF (show ¬ (0 : Int32) = 7 by decide), ifF (show ¬ (0 : Int32) = 10 by decide), ifF (show ¬ (0 : Int32) = 11 by decide), ifF (show ¬ (0 : Int32) = 12 by decide), ifF (show ¬ (0 : Int32) = 13 by decide), ifF (show ¬ (0 : Int32) = 23 by decide), ifF (show ¬ (0 : Int32) = 16 by decide), ifF (show ¬ (0 : Int32) = 20 by decide)]
  · rw [q, ifF (show ¬ (1 : Int32) = 3 by decide), ifF (show ¬ (1 : Int32) = 5 by decide), ifF (show ¬ (1 : Int32) = 6 by decide), ifF (show ¬ (1 : Int32) = 8 by decide), ifF (show ¬ (1 : Int32) = 9 by decide), ifF (show ¬ (1 : Int32) = 14 by decide), ifF (show ¬ (1 : Int32) = 15 by decide), ifF (show ¬ (1 : Int32) = 21 by decide), ifF (show ¬ (1 : Int32) = 22 by decide), ifF (show ¬ (1 : Int32) = 7 by decide), ifF (show ¬ (1 : Int32) = 10 by decide), ifF (show ¬ (1 : Int32) = 11 by decide), ifF (show ¬ (1 : Int32) = 12 by decide), ifF (show ¬ (1 : Int32) = 13 by decide), ifF (show ¬ (1 : Int32) = 23 by decide), ifF (show ¬ (1 : Int32) = 16 by decide), ifF (show ¬ (1 : Int32) = 20 by decide)]
  · rw [q, ifF (show ¬ (2 : Int32) = 3 by decide), ifF (show ¬ (2 : Int32) = 5 by decide), ifF (show ¬ (2 : Int32) = 6 by decide), ifF (show ¬ (2 : Int32) = 8 by decide), ifF (show ¬ (2 : Int32) = 9 by decide), ifF (show ¬ (2 : Int32) = 14 by decide), ifF (show ¬ (2 : Int32) = 15 by decide), ifF (show ¬ (2 : Int32) = 21 by decide), ifF (show ¬ (2 : Int32) = 22 by decide), ifF (show ¬ (2 : Int32) = 7 by decide), ifF (show ¬ (2 : Int32) = 10 by decide), ifF (show ¬ (2 : Int32) = 11 by decide), ifF (show ¬ (2 : Int32) = 12 by decide), ifF (show ¬ (2 : Int32) = 13 by decide), ifF (show ¬ (2 : Int32) = 23 by decide), ifF (show ¬ (2 : Int32) = 16 by decide), ifF (show ¬ (2 : Int32) = 20 by decide)]
  · rw [q, ifF (show ¬ (4 : Int32) = 3 by decide), ifF (show ¬ (4 : Int32) = 5 by decide), ifF (show ¬ (4 : Int32) = 6 by decide), ifF (show ¬ (4 : Int32) = 8 by decide), ifF (show ¬ (4 : Int32) = 9 by decide), ifF (show ¬ (4 : Int32) = 14 by decide), ifF (show ¬ (4 : Int32) = 15 by decide), ifF (show ¬ (4 : Int32) = 21 by decide), ifF (show ¬ (4 : Int32) = 22 by decide), ifF (show ¬ (4 : Int32) = 7 by decide), ifF (show ¬ (4 : Int32) = 10 by decide), ifF (show ¬ (4 : Int32) = 11 by decide), ifF (show ¬ (4 : Int32) = 12 by decide), ifF (show ¬ (4 : Int32) = 13 by decide), ifF (show ¬ (4 : Int32) = 23 by decide), ifF (show ¬ (4 : Int32) = 16 by decide), ifF (show ¬ (4 : Int32) = 20 by decide)]
  · rw [q, ifF (show ¬ (24 : Int32) = 3 by decide), ifF (show ¬ (24 : Int32) = 5 by decide), ifF (show ¬ (24 : Int32) = 6 by decide), ifF (show ¬ (24 : Int32) = 8 by decide), ifF (show ¬ (24 : Int32) = 9 by decide), ifF (show ¬ (24 : Int32) = 14 by decide), ifF (show ¬ (24 : Int32) = 15 by decide), ifF (show ¬ (24 : Int32) = 21 by decide), ifF (show ¬ (24 : Int32) = 22 by decide), ifF (show ¬ (24 : Int32) = 7 by decide), ifF (show ¬ (24 : Int32) = 10 by decide), ifF (show ¬ (24 : Int32) = 11 by decide), ifF (show ¬ (24 : Int32) = 12 by decide), ifF (show ¬ (24 : Int32) = 13 by decide), ifF (show ¬ (24 : Int32) = 23 by decide), ifF (show ¬ (24 : Int32) = 16 by decide), ifF (show ¬ (24 : Int32) = 20 by decide)]
theorem hl_der {x : Int32} {h n : Nat} (hn : n ≠ 0 ∧ n < 70000) (hop : tA σ 121 n = 3) : HdL σ x (h + 1) n (decide (tA σ 122 n = x)) := fun tf f ht hf => by
  obtain ⟨f, rfl⟩ : ∃ g, f = g + 1 := ⟨f - 1, by omega⟩
  have inn : inb (nI n) 70000 := inb_nI' hn.2 (by decide)
  have xn : ix (nI n) = n := ix_nI (by omega)
  have n0 : ¬ nI n = 0 := fun z => hn.1 ((bI_eq (b := 0) (by omega) (by decide)).mp z)
  refine ⟨if tA σ 122 n = x then .inr 1 else .inr 0, ?_, ?_⟩
  · unfold L_hasDer_2
    rw [ifF n0, ifT inn, nm_eq, xn, hop, ifT (rfl : (3 : Int32) = 3), ifT inn]
    by_cases q : tA σ 122 n = x
    · rw [ifT q, ifT q]
    · rw [ifF q, ifF q]
  · by_cases q : tA σ 122 n = x
    · rw [ifT q]; exact Or.inl ⟨by simpa using q, rfl⟩
    · rw [ifF q]; exact Or.inr ⟨by simpa using q, Or.inr rfl⟩
/-- both sides agree -/
theorem z_hasDer (W : FW C B P mss fss D M σ0) (hl : l = 106) (hK : K ≤ (pl D l).length ∧ N ≤ 70000) {x : Int32} : ∀ (h s a n : Nat), h ≤ 100 → NdR fx D M σ l V h s K N a n → ∃ p, HdK M x h a p ∧ HdL σ x h n p
  | 0, _, _, _, _, z => z.elim
  | h + 1, s, a, n, hh, z => by
    have ih := fun s a n z => z_hasDer W hl hK (x := x) h s a n (by omega) z
    obtain ⟨⟨⟨k, k1, k2, -⟩, n1, n2⟩, ⟨t, t1, t2, t3, t4, -⟩, z⟩ := z
    have ka : mk M a = 18 ∧ a ≠ 0 := by
      obtain ⟨u1, u2, -⟩ := W.2.1.2.1 l (by rw [hl]; decide) k (by omega)
      rw [k2]
      exact ⟨by rw [u1, hl]; rfl, by omega⟩
    have hn : n ≠ 0 ∧ n < 70000 := ⟨by omega, by omega⟩
    have hp : ∀ s a n, NdR fx D M σ l V h s K N a n → 1 ≤ h := fun s a n z => by
      cases h with
      | zero => exact z.elim
      | succ h => omega
    rcases z with ⟨-, c1, c2, -, c3, c4, c5⟩ | ⟨-, c1, ⟨v, v1, v2, v3, -⟩, c3, c4, c5⟩ | ⟨-, c1, c2, -, c3, c4, c5⟩ | ⟨-, c1, ⟨x1, c2, c3⟩, c4, c5⟩ | ⟨-, c1, ⟨x1, c2, c3⟩, ⟨y1, c4, c5⟩, c6⟩ | ⟨-, c1, c0, ⟨x1, c2, c3⟩, ⟨y1, c4, c5⟩, z1, c6, c7⟩ | ⟨-, c0, c1, ⟨x1, c2, c3⟩, ⟨y1, c4, c5⟩, c6⟩ | ⟨-, c1, ⟨x1, c2, c3⟩, ⟨y1, c4, c5⟩, c6⟩ | ⟨-, c1, c0, ⟨x1, c2, c3⟩, c4, c5⟩ | ⟨-, c1, c0, -, -, c3, c4, c5⟩
    · exact ⟨false, hk_o (p1 := false) (p2 := false) (p3 := false) ka.2 ka.1 (by rw [c1]; decide) (by rw [c3]; exact hk0) (by rw [c4]; exact hk0) (by rw [c5]; exact hk0), hl_lf hn (Or.inl c2)⟩
    · simp only [List.mem_cons, List.not_mem_nil, or_false, Prod.mk.injEq] at c1
      rcases c1 with ⟨q1, q2⟩ | ⟨q1, q2⟩ | ⟨q1, q2⟩
      · exact ⟨false, hk_o (p1 := false) (p2 := false) (p3 := false) ka.2 ka.1 (by rw [q1]; decide) (by rw [c3]; exact hk0) (by rw [c4]; exact hk0) (by rw [c5]; exact hk0), hl_lf hn (Or.inr (Or.inr (Or.inl q2)))⟩
      · refine ⟨decide (tA σ 122 n = x), fun kf hk => ?_, hl_der hn q2⟩
        obtain ⟨kf, rfl⟩ : ∃ g, kf = g + 1 := ⟨kf - 1, by omega⟩
        show KB_X0_hasDer (KG_X0_hasDer kf) a x M = _
        unfold KB_X0_hasDer
        rw [ifF ka.2, ifT ka.1, q1, ifT (rfl : (15 : Int32) = 15), ifT ka.1, v2, v3]
        by_cases q : nI v = x
        · rw [ifT q]
          have : decide (nI v = x) = true := by simpa using q
          rw [this]; rfl
        · rw [ifF q]
          have : decide (nI v = x) = false := by simpa using q
          rw [this]
          exact hk_21 (h := h) (p1 := false) (p2 := false) (p3 := false) ka.1 (by rw [c3]; exact hk0) (by rw [c4]; exact hk0) (by rw [c5]; exact hk0) (by omega)
      · exact ⟨false, hk_o (p1 := false) (p2 := false) (p3 := false) ka.2 ka.1 (by rw [q1]; decide) (by rw [c3]; exact hk0) (by rw [c4]; exact hk0) (by rw [c5]; exact hk0), hl_lf hn (Or.inr (Or.inr (Or.inr (Or.inl q2))))⟩
    · exact ⟨false, hk_o (p1 := false) (p2 := false) (p3 := false) ka.2 ka.1 (by rw [c1]; decide) (by rw [c3]; exact hk0) (by rw [c4]; exact hk0) (by rw [c5]; exact hk0), hl_lf hn (Or.inr (Or.inl c2))⟩
    · obtain ⟨p, g1, g2⟩ := ih 0 _ _ c3
      have op : (¬ mI M 3400 a = 15) ∧ (tA σ 121 n = 7 ∨ tA σ 121 n = 10 ∨ tA σ 121 n = 11 ∨ tA σ 121 n = 12 ∨ tA σ 121 n = 13 ∨ tA σ 121 n = 23) := by
        simp only [List.mem_cons, List.not_mem_nil, or_false, Prod.mk.injEq] at c1
        rcases c1 with ⟨q1, q2⟩ | ⟨q1, q2⟩ | ⟨q1, q2⟩ | ⟨q1, q2⟩ | ⟨q1, q2⟩ <;> rw [q1, q2] <;> decide
      refine ⟨p || false || false, hk_o ka.2 ka.1 op.1 g1 (by rw [c4]; exact hk0) (by rw [c5]; exact hk0), ?_⟩
      rw [Bool.or_false, Bool.or_false]
      exact hl_un hn op.2 c2 g2
    · obtain ⟨p, g1, g2⟩ := ih 0 _ _ c3
      obtain ⟨p', g1', g2'⟩ := ih 0 _ _ c5
      have op : (¬ mI M 3400 a = 15) ∧ (tA σ 121 n = 5 ∨ tA σ 121 n = 6 ∨ tA σ 121 n = 8 ∨ tA σ 121 n = 9 ∨ tA σ 121 n = 14 ∨ tA σ 121 n = 15 ∨ tA σ 121 n = 21 ∨ tA σ 121 n = 22) := by
        simp only [List.mem_cons, List.not_mem_nil, or_false, Prod.mk.injEq] at c1
        rcases c1 with ⟨q1, q2⟩ | ⟨q1, q2⟩ | ⟨q1, q2⟩ | ⟨q1, q2⟩ | ⟨q1, q2⟩ | ⟨q1, q2⟩ <;> rw [q1, q2] <;> decide
      refine ⟨p || p' || false, hk_o ka.2 ka.1 op.1 g1 g1' (by rw [c6]; exact hk0), ?_⟩
      rw [Bool.or_false]
      exact hl_two hn op.2 c2 c4 (by omega) (hp _ _ _ c3) g2 g2'
    · obtain ⟨p, g1, g2⟩ := ih 1 _ _ c3
      obtain ⟨p', g1', g2'⟩ := ih 0 _ _ c5
      obtain ⟨p3, g13, g23⟩ := ih 0 _ _ c7
      exact ⟨p || p' || p3, hk_o ka.2 ka.1 (by rw [c1]; decide) g1 g1' g13, hl_if hn c0 c2 c4 c6 (by omega) (hp _ _ _ c3) g2 g2' g23⟩
    · obtain ⟨p, g1, g2⟩ := ih 0 _ _ c3
      obtain ⟨p', g1', g2'⟩ := ih 0 _ _ c5
      have op : ¬ mI M 3400 a = 15 := by
        simp only [List.mem_cons, List.not_mem_nil, or_false, Prod.mk.injEq] at c1
        rcases c1 with ⟨q1, q2⟩ | ⟨q1, q2⟩ | ⟨q1, q2⟩ | ⟨q1, q2⟩ | ⟨q1, q2⟩ | ⟨q1, q2⟩ <;> rw [q1] <;> decide
      refine ⟨p || p' || false, hk_o ka.2 ka.1 op g1 g1' (by rw [c6]; exact hk0), ?_⟩
      rw [Bool.or_false]
      exact hl_rl hn c0 c2 c4 (by omega) (hp _ _ _ c3) g2 g2'
    · obtain ⟨p, g1, g2⟩ := ih 1 _ _ c3
      obtain ⟨p', g1', g2'⟩ := ih 1 _ _ c5
      have op : (¬ mI M 3400 a = 15) ∧ (tA σ 121 n = 5 ∨ tA σ 121 n = 6 ∨ tA σ 121 n = 8 ∨ tA σ 121 n = 9 ∨ tA σ 121 n = 14 ∨ tA σ 121 n = 15 ∨ tA σ 121 n = 21 ∨ tA σ 121 n = 22) := by
        simp only [List.mem_cons, List.not_mem_nil, or_false, Prod.mk.injEq] at c1
        rcases c1 with ⟨q1, q2⟩ | ⟨q1, q2⟩ <;> rw [q1, q2] <;> decide
      refine ⟨p || p' || false, hk_o ka.2 ka.1 op.1 g1 g1' (by rw [c6]; exact hk0), ?_⟩
      rw [Bool.or_false]
      exact hl_two hn op.2 c2 c4 (by omega) (hp _ _ _ c3) g2 g2'
    · obtain ⟨p, g1, g2⟩ := ih 1 _ _ c3
      refine ⟨p || false || false, hk_o ka.2 ka.1 (by rw [c1]; decide) g1 (by rw [c4]; exact hk0) (by rw [c5]; exact hk0), ?_⟩
      rw [Bool.or_false, Bool.or_false]
      exact hl_un hn (Or.inr (Or.inr (Or.inr (Or.inr (Or.inr c0))))) c2 g2
    · exact ⟨false, hk_o (p1 := false) (p2 := false) (p3 := false) ka.2 ka.1 (by rw [c1]; decide) (by rw [c3]; exact hk0) (by rw [c4]; exact hk0) (by rw [c5]; exact hk0), hl_lf hn (Or.inr (Or.inr (Or.inr (Or.inr c0))))⟩
end HASDER
