/-! Layer B: expressions and conditions, all of them -/
set_option maxRecDepth 100000
def mu (C : PC) (i dep r : Nat) : Nat := 30 * (17 - dep) + 3 * r + (cl C - cp C i)
section SG
variable {C : PC} {M : CM} {σ : TS} {i dep c s n : Nat}
theorem Pe.mono (P : Pe C M σ i dep c s n) : (∀ k, k ≤ ct C → cp C k ≤ cl C) ∧ ∀ j k, j ≤ k → k ≤ ct C → cp C j ≤ cp C k := by
  obtain ⟨⟨-, ⟨-, hT⟩, -⟩, -⟩ := P
  refine ⟨fun k hk => (hT k hk).1, fun j k hjk => ?_⟩
  obtain ⟨d, rfl⟩ : ∃ d, k = j + d := ⟨k - j, by omega⟩
  clear hjk
  induction d with
  | zero => intro _; exact Nat.le_refl _
  | succ d ih =>
    intro hk
    obtain ⟨_, e, kd, _, hlt, _⟩ := hT (j + d) (by omega)
    have := (hlt (by omega)).2.2
    have := ih (by omega)
    show cp C j ≤ cp C (j + d + 1)
    omega
theorem mu_le {r r' i' dep' : Nat} (P : Pe C M σ i dep c s n) (hi : i ≤ i') (hi' : i' ≤ ct C) (hd : dep ≤ dep') (hd' : dep' ≤ 16) (hr : 3 * r' + 3 ≤ 3 * r + 30 * (dep' - dep)) : mu C i' dep' r' + 3 ≤ mu C i dep r := by
  have := P.mono.2 i i' hi hi'
  unfold mu
  omega
/-- what the group owes, with fuels dK, dT, where the measure is at most N -/
def SGo (N : Nat) : Prop := ∀ (C : PC) (M : CM) (σ : TS) (i dep c s n dK dT : Nat), Pe C M σ i dep c s n → 64 ≤ c → 4096 ≤ s → 16 ≤ n →
  (mu C i dep 7 ≤ N → mu C i dep 7 + 30 ≤ 3 * dK → mu C i dep 7 + 30 ≤ 3 * dT → Ok C M σ i dep c s n 0 ((KG_X2_both dK).2.2.1 M) ((G_ands dT).2.2.2.1 σ)) ∧
  (mu C i dep 6 ≤ N → mu C i dep 6 + 30 ≤ 3 * dK → mu C i dep 6 + 30 ≤ 3 * dT → Ok C M σ i dep c s n 0 ((KG_X2_both dK).2.2.2.2.2.1 M) ((G_ands dT).2.2.2.2.2.2.1 σ)) ∧
  (mu C i dep 5 ≤ N → mu C i dep 5 + 30 ≤ 3 * dK → mu C i dep 5 + 30 ≤ 3 * dT → Ok C M σ i dep c s n 0 ((KG_X2_both dK).2.2.2.2.2.2.1 M) ((G_ands dT).2.2.2.2.2.2.2.1 σ)) ∧
  (mu C i dep 4 ≤ N → mu C i dep 4 + 30 ≤ 3 * dK → mu C i dep 4 + 30 ≤ 3 * dT → Ok C M σ i dep c s n 0 ((KG_X2_both dK).2.2.2.1 M) ((G_ands dT).2.2.2.2.1 σ)) ∧
  (car C = 0 → (mu C i dep 9 ≤ N → mu C i dep 9 + 30 ≤ 3 * dK → mu C i dep 9 + 30 ≤ 3 * dT → Ok C M σ i dep c s n 1 ((KG_X2_both dK).2.1 M) ((G_ands dT).2.2.1 σ)) ∧
  (mu C i dep 8 ≤ N → mu C i dep 8 + 30 ≤ 3 * dK → mu C i dep 8 + 30 ≤ 3 * dT → Ok C M σ i dep c s n 1 ((KG_X2_both dK).1 M) ((G_ands dT).1 σ)) ∧
  (mu C i dep 7 ≤ N → mu C i dep 7 + 30 ≤ 3 * dK → mu C i dep 7 + 30 ≤ 3 * dT → Ok C M σ i dep c s n 1 ((KG_X2_both dK).2.2.2.2.2.2.2 M) ((G_ands dT).2.2.2.2.2.2.2.2 σ)))
theorem sg_all : ∀ N, SGo N := by
  intro N
  induction N with
  | zero =>
    intro C M σ i dep c s n dK dT P hc hs hn
    have h : ∀ r, 4 ≤ r → ¬ mu C i dep r ≤ 0 := fun r hr => by unfold mu; omega
    exact ⟨fun z => absurd z (h 7 (by decide)), fun z => absurd z (h 6 (by decide)), fun z => absurd z (h 5 (by decide)), fun z => absurd z (h 4 (by decide)), fun _ => ⟨fun z => absurd z (h 9 (by decide)), fun z => absurd z (h 8 (by decide)), fun z => absurd z (h 7 (by decide))⟩⟩
  | succ N ih =>
    intro C M σ i dep c s n dK dT P hc hs hn
    have hd16 := P.2.2.1.2.2
    refine ⟨fun h1 h2 h3 => ?_, fun h1 h2 h3 => ?_, fun h1 h2 h3 => ?_, fun h1 h2 h3 => ?_, fun hcr => ⟨fun h1 h2 h3 => ?_, fun h1 h2 h3 => ?_, fun h1 h2 h3 => ?_⟩⟩
    · -- expression
      obtain ⟨dK, rfl⟩ : ∃ k, dK = k + 1 := ⟨dK - 1, by omega⟩
      obtain ⟨dT, rfl⟩ : ∃ k, dT = k + 4 := ⟨dT - 4, by omega⟩
      have m6 := mu_le P (r := 7) (r' := 6) (Nat.le_refl _) P.it.1 (Nat.le_refl _) hd16 (by omega)
      refine expr_ok dK dT ((ih C M σ i dep c s n dK (dT + 3) P hc hs hn).2.1 (by omega) (by omega) (by omega)) (fun hcr M' σ' i' c' s' n' hi h4 h5 h6 P' => ?_) (fun M' σ' i' c' s' n' hi h4 h5 h6 P' => ?_) P hc hs hn
      · have m9 := mu_le P (dep' := dep + 1) (r := 7) (r' := 9) (Nat.le_of_lt hi) P'.it.1 (Nat.le_succ _) P'.2.2.1.2.2 (by omega)
        exact ((ih C M' σ' i' (dep + 1) c' s' n' dK (dT + 3) P' h4 h5 h6).2.2.2.2 hcr).1 (by omega) (by omega) (by omega)
      · have m9 := mu_le P (dep' := dep + 1) (r := 7) (r' := 7) (Nat.le_of_lt hi) P'.it.1 (Nat.le_succ _) P'.2.2.1.2.2 (by omega)
        exact (ih C M' σ' i' (dep + 1) c' s' n' dK (dT + 3) P' h4 h5 h6).1 (by omega) (by omega) (by omega)
    · -- sum
      obtain ⟨dK, rfl⟩ : ∃ k, dK = k + 1 := ⟨dK - 1, by omega⟩
      obtain ⟨dT, rfl⟩ : ∃ k, dT = k + 1 := ⟨dT - 1, by omega⟩
      refine sum_ok dK dT (fun M' σ' i' c' s' n' hi h4 h5 h6 P' => ?_) P hc hs hn
      have m := mu_le P (r := 6) (r' := 5) hi P'.it.1 (Nat.le_refl _) hd16 (by omega)
      exact (ih C M' σ' i' dep c' s' n' dK dT P' h4 h5 h6).2.2.1 (by omega) (by omega) (by omega)
    · -- term
      obtain ⟨dK, rfl⟩ : ∃ k, dK = k + 1 := ⟨dK - 1, by omega⟩
      obtain ⟨dT, rfl⟩ : ∃ k, dT = k + 1 := ⟨dT - 1, by omega⟩
      refine term_ok dK dT (fun M' σ' i' c' s' n' hi h4 h5 h6 P' => ?_) P hc hs hn
      have m := mu_le P (r := 5) (r' := 4) hi P'.it.1 (Nat.le_refl _) hd16 (by omega)
      exact (ih C M' σ' i' dep c' s' n' dK dT P' h4 h5 h6).2.2.2.1 (by omega) (by omega) (by omega)
    · -- factor
      obtain ⟨dK, rfl⟩ : ∃ k, dK = k + 2 := ⟨dK - 2, by omega⟩
      obtain ⟨dT, rfl⟩ : ∃ k, dT = k + 3 := ⟨dT - 3, by omega⟩
      refine factor_ok dK dT (fun L eK eT hK hT M' σ' i' c' s' n' hi h4 h5 h6 P' => ?_) P hc hs hn
      have m := mu_le P (dep' := dep + 1) (r := 4) (r' := 7) (Nat.le_of_lt hi) P'.it.1 (Nat.le_succ _) P'.2.2.1.2.2 (by omega)
      have e : mu (C.lo L) i' (dep + 1) 7 = mu C i' (dep + 1) 7 := rfl
      have m2 : mu C i' (dep + 1) 7 + 9 ≤ mu C i dep 4 := by
        have q := P.mono.2 i i' (Nat.le_of_lt hi) P'.it.1
        have q2 := P'.2.2.1.2.2
        unfold mu
        omega
      exact (ih (C.lo L) M' σ' i' (dep + 1) c' s' n' eK eT P' h4 h5 h6).1 (by omega) (by omega) (by omega)
    · -- condition
      obtain ⟨dK, rfl⟩ : ∃ k, dK = k + 1 := ⟨dK - 1, by omega⟩
      obtain ⟨dT, rfl⟩ : ∃ k, dT = k + 1 := ⟨dT - 1, by omega⟩
      refine cond_ok dK dT (fun M' σ' i' c' s' n' hi h4 h5 h6 P' => ?_) P hc hs hn
      have m := mu_le P (r := 9) (r' := 8) hi P'.it.1 (Nat.le_refl _) hd16 (by omega)
      exact ((ih C M' σ' i' dep c' s' n' dK dT P' h4 h5 h6).2.2.2.2 hcr).2.1 (by omega) (by omega) (by omega)
    · -- both
      obtain ⟨dK, rfl⟩ : ∃ k, dK = k + 1 := ⟨dK - 1, by omega⟩
      obtain ⟨dT, rfl⟩ : ∃ k, dT = k + 1 := ⟨dT - 1, by omega⟩
      refine both_ok dK dT (fun M' σ' i' c' s' n' hi h4 h5 h6 P' => ?_) P hc hs hn
      have m := mu_le P (r := 8) (r' := 7) hi P'.it.1 (Nat.le_refl _) hd16 (by omega)
      exact ((ih C M' σ' i' dep c' s' n' dK dT P' h4 h5 h6).2.2.2.2 hcr).2.2 (by omega) (by omega) (by omega)
    · -- test
      obtain ⟨dK, rfl⟩ : ∃ k, dK = k + 1 := ⟨dK - 1, by omega⟩
      obtain ⟨dT, rfl⟩ : ∃ k, dT = k + 4 := ⟨dT - 4, by omega⟩
      refine test_ok dK dT hcr (fun M' σ' i' c' s' n' hi h4 h5 h6 P' => ?_) (fun M' σ' i' c' s' n' hi h3 h4 h5 h6 P' => ?_) (fun M' σ' i' c' s' n' hi h4 h5 h6 P' => ?_) P hc hs hn
      · have m := mu_le P (dep' := dep + 1) (r := 7) (r' := 9) (Nat.le_of_lt hi) P'.it.1 (Nat.le_succ _) P'.2.2.1.2.2 (by omega)
        exact ((ih C M' σ' i' (dep + 1) c' s' n' dK (dT + 3) P' h4 h5 h6).2.2.2.2 hcr).1 (by omega) (by omega) (by omega)
      · have q := P'.mono.1 i' P'.it.1
        have m : mu C i' dep 7 + 3 ≤ mu C i dep 7 := by unfold mu; omega
        exact ((ih C M' σ' i' dep c' s' n' dK (dT + 3) P' h4 h5 h6).2.2.2.2 hcr).2.2 (by omega) (by omega) (by omega)
      · have m := mu_le P (r := 7) (r' := 6) hi P'.it.1 (Nat.le_refl _) hd16 (by omega)
        exact (ih C M' σ' i' dep c' s' n' dK (dT + 3) P' h4 h5 h6).2.1 (by omega) (by omega) (by omega)
theorem Pe.l1280 (P : Pe C M σ i dep c s n) (h : cl C ≤ 1280) (r : Nat) (hr : r ≤ 9) : mu C i dep r + 30 ≤ 3 * 800 := by
  unfold mu; omega
/-- an expression is read -/
theorem z_expr (P : Pe C M σ i dep c s n) (hl : cl C ≤ 1280) (hc : 64 ≤ c) (hs : 4096 ≤ s) (hn : 16 ≤ n) : Ok C M σ i dep c s n 0 (K_X2_expression M) (F_expression σ) := by
  have h := P.l1280 hl 7 (by decide)
  exact (sg_all 2400 C M σ i dep c s n 800 800 P hc hs hn).1 (by omega) h h
theorem z_cond (P : Pe C M σ i dep c s n) (hl : cl C ≤ 1280) (hc : 64 ≤ c) (hs : 4096 ≤ s) (hn : 16 ≤ n) (hcr : car C = 0) : Ok C M σ i dep c s n 1 (K_X2_condition M) (F_condition σ) := by
  have h := P.l1280 hl 9 (by decide)
  exact ((sg_all 2400 C M σ i dep c s n 800 800 P hc hs hn).2.2.2.2 hcr).1 (by omega) h h
end SG
