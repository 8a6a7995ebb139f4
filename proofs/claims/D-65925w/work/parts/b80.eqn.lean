/-! Layer B: equations: at the end of the text -/
set_option maxRecDepth 100000
section EQN
variable {C : PC} {M M' : CM} {σ σ' : TS} {i dep c s n c' s' k fl : Nat} {cE : Nat → Int32 → CM → Option ((Unit ⊕ Nat) × CM)} {cI : Int32 → CM → Option ((Nat ⊕ Nat) × CM)} {x : Int32}
theorem k_tk0 {x : Int32} (h : K_X2_isKey x M = some (0, M)) : K_X2_takeKey x M = some (0, M) := by
  unfold K_X2_takeKey
  rw [h, ob_some, ifT (rfl : (0 : Int32) = 0)]
/-- none of the words that begin equations: left = right -/
theorem eq_none (P : PE C M σ i dep c s n) (hc : 80 ≤ c) (hs : 8000 ≤ s) (h15 : K_X2_isKey 15 M = some (0, M)) (h18 : K_X2_isKey 18 M = some (0, M)) (h21 : K_X2_isKey 21 M = some (0, M)) (h16 : K_X2_isKey 16 M = some (0, M)) : KB_X2_equation cE cI x M = kE61 (mn M) (eqM M 61) := by
  obtain ⟨g1, g2⟩ := P.1.px.in1
  obtain ⟨a4, a5, a6, a7, a8⟩ := P.1.2.2.2.1
  unfold KB_X2_equation
  rw [ifT g1, nm_eq, k_tk0 h15, ob_some, ifT (rfl : (0 : Int32) = 0), k_tk0 h18, ob_some, ifT (rfl : (0 : Int32) = 0), h21, ob_some, ifT (rfl : (0 : Int32) = 0), h16, ob_some, ifT (rfl : (0 : Int32) = 0)]
  exact eq_al M 61 (fun v M23 => kE61 v M23) ⟨by omega, by omega⟩ P.1.n167
theorem eq_end (P : PE C M σ i dep c s n) (hc : 80 ≤ c) (hs : 8000 ≤ s) (h : tI σ 11 = 0 ∨ tI σ 11 = 4) : KB_X2_equation cE cI x M = kE61 (mn M) (eqM M 61) := by
  have hk : ∀ (j : Nat) (y : Int32) (c : Int64), y = nI j → j < 38 → c = kco j → K_X2_isKey y M = some (0, M) := fun j y c h1 h2 h3 => by
    rcases y_key P.1.px h1 h2 h3 with ⟨_, _, _, q, _⟩ | ⟨q, _⟩
    · rcases h with z | z <;> rw [z] at q <;> exact absurd q (by decide)
    · exact q
  exact eq_none P hc hs (hk 15 15 27988542783578996 rfl (by decide) (by decide)) (hk 18 18 6713202 rfl (by decide) (by decide)) (hk 21 21 26982 rfl (by decide) (by decide)) (hk 16 16 2003330414 rfl (by decide) (by decide))
end EQN
