/-! Layer B: sums, terms, conditions: rows of parts with signs between them -/
set_option maxRecDepth 100000
section LOOPS
variable {C : PC} {M M' Mb : CM} {σ σ' σb : TS} {i ib dep depb c s n so : Nat} {cfK : CM → Option ((Nat ⊕ Nat) × CM)} {cfT : TS → Option (Int32 × TS)}
theorem loop_gen {LK : Nat → Nat → CM → Option ((Nat ⊕ (Nat ⊕ Nat)) × CM)} {LT : Nat → Int32 → TS → Option (Int32 × TS)} (h0 : 167 ≤ mn Mb)
    (step : ∀ (f f' : Nat) (M : CM) (σ : TS) (i a x c s n : Nat), Pe C M σ i dep c s n → 16 ≤ c → 2048 ≤ s → (LK (f + 1) a M = some (.inl a, M) ∧ LT (f' + 1) (nI x) σ = some (nI x, σ)) ∨ (∃ k kt, (so = 0 ∧ (k, kt) ∈ biL ∨ so = 1 ∧ (k, kt) ∈ coL) ∧ i < ct C ∧ LK (f + 1) a M = (obS (cfK (mnew (msI M 405 90 (nI (i + 1))) 8 0 8)) (fun w M18 => some (.inr (.inr w), M18)) fun r19 M18 => if ¬ mn M = 0 then ob (K_X8_init_2 (mn M) k a r19 0 M18) fun _ M24 => LK f (mn M) M24 else none) ∧ LT (f' + 1) (nI x) σ = ob (F_next σ) fun _ s13 => ob (cfT s13) fun r18 s17 => ob (F_node kt (nI x) r18 0 s17) fun r22 s21 => LT f' r22 s21))
    (hbad : ∀ (f' : Nat) (σ' s' : TS) (r : Int32), Br C σ' s' → BW C σ' (LT (f' + 1) r s'))
    (sub : ∀ (M : CM) (σ : TS) (i c s n : Nat), ib ≤ i → 64 ≤ c → 4096 ≤ s → 16 ≤ n → Pe C M σ i dep c s n → Ok C M σ i dep c s n so (cfK M) (cfT σ)) :
    ∀ (d : Nat) (M : CM) (σ : TS) (i a x f f' : Nat), ct C - i ≤ d → d < f → d + 1 < f' → ib ≤ i → Es Mb σb M σ → Pe C M σ i dep c s n → 64 ≤ c → 4096 ≤ s → 16 ≤ n → Rs C Mb M σ so a x → Lk C Mb σb i dep c s n so (LK f a M) (LT f' (nI x) σ) := by
  intro d
  induction d with
  | zero =>
    intro M σ i a x f f' hd hf hf' hib E P hc hs hn hR
    obtain ⟨f, rfl⟩ : ∃ g, f = g + 1 := ⟨f - 1, by omega⟩
    obtain ⟨f', rfl⟩ : ∃ g, f' = g + 1 := ⟨f' - 1, by omega⟩
    rcases step f f' M σ i a x c s n P (by omega) (by omega) with ⟨e1, e2⟩ | ⟨k, kt, _, hi, _⟩
    · rw [e1, e2]; exact Or.inl ⟨a, M, x, σ, i, rfl, rfl, P, Nat.le_refl _, E, hR⟩
    · omega
  | succ d ih =>
    intro M σ i a x f f' hd hf hf' hib E P hc hs hn hR
    obtain ⟨f, rfl⟩ : ∃ g, f = g + 1 := ⟨f - 1, by omega⟩
    obtain ⟨f', rfl⟩ : ∃ g, f' = g + 1 + 1 := ⟨f' - 2, by omega⟩
    rcases step f (f' + 1) M σ i a x c s n P (by omega) (by omega) with ⟨e1, e2⟩ | ⟨k, kt, hk, hi, e1, e2⟩
    · rw [e1, e2]; exact Or.inl ⟨a, M, x, σ, i, rfl, rfl, P, Nat.le_refl _, E, hR⟩
    · obtain ⟨σ1, n1, P1, E1⟩ := z_step P hi
      rw [e1, e2, n1, ob_some]
      rcases bin_step (recK := LK f) (recT := LT (f' + 1)) (k := k) (kt := kt) (E.tr E1) h0 P1 (by omega) (by omega) (by omega) (hR.mv P h0 E1) hk (fun P2 => sub _ _ _ _ _ _ (by omega) (by omega) (by omega) (by omega) P2) (fun σ' s' r hb => hbad f' σ' s' r hb) with ⟨M3, σ3, i3, N3, g1, g2, g3, g4, g5, g6⟩ | ⟨w, M3, y, σ3, g1, g2, g3⟩
      · have g1 : (obS (cfK (mnew (msI M 405 90 (nI (i + 1))) 8 0 8)) (fun w M18 => some (.inr (.inr w), M18)) fun r19 M18 => if ¬ mn M = 0 then ob (K_X8_init_2 (mn M) k a r19 0 M18) fun _ M24 => LK f (mn M) M24 else none) = LK f (mn M) M3 := g1
        rw [g1, g2]
        rcases ih M3 σ3 i3 (mn M) N3 f (f' + 1) (by omega) (by omega) (by omega) (by omega) g5 (g3.wk (by omega) (by omega) (by omega)) hc hs hn g6 with ⟨a', M4, x', σ4, i4, q1, q2, q3, q4, q5, q6⟩ | q
        · exact Or.inl ⟨a', M4, x', σ4, i4, q1, q2, q3, by omega, q5, q6⟩
        · exact Or.inr q
      · have g1 : (obS (cfK (mnew (msI M 405 90 (nI (i + 1))) 8 0 8)) (fun w M18 => some (.inr (.inr w), M18)) fun r19 M18 => if ¬ mn M = 0 then ob (K_X8_init_2 (mn M) k a r19 0 M18) fun _ M24 => LK f (mn M) M24 else none) = some (.inr (.inr w), M3) := g1
        rw [g1, g2]
        exact Or.inr ⟨w, M3, y, σ3, rfl, rfl, g3⟩
theorem mnI {a : Nat} {v : Int32} (M : CM) : mn (msI M 405 a v) = mn M := rfl
theorem t14 (P : Pe C M σ i dep c s n) {x : Int32} (h : tI σ 14 = x) : tI σ 14 = x := h
theorem term_step (f f' : Nat) (M : CM) (σ : TS) (i a x c s n : Nat) (P : Pe C M σ i dep c s n) (hc : 16 ≤ c) (hs : 2048 ≤ s) : (KL_X2_term_5 cfK (f + 1) a M = some (.inl a, M) ∧ L_term_5 cfT (f' + 1) (nI x) σ = some (nI x, σ)) ∨ (∃ k kt, ((0 : Nat) = 0 ∧ (k, kt) ∈ biL ∨ (0 : Nat) = 1 ∧ (k, kt) ∈ coL) ∧ i < ct C ∧ KL_X2_term_5 cfK (f + 1) a M = (obS (cfK (mnew (msI M 405 90 (nI (i + 1))) 8 0 8)) (fun w M18 => some (.inr (.inr w), M18)) fun r19 M18 => if ¬ mn M = 0 then ob (K_X8_init_2 (mn M) k a r19 0 M18) fun _ M24 => KL_X2_term_5 cfK f (mn M) M24 else none) ∧ L_term_5 cfT (f' + 1) (nI x) σ = ob (F_next σ) fun _ s13 => ob (cfT s13) fun r18 s17 => ob (F_node kt (nI x) r18 0 s17) fun r22 s21 => L_term_5 cfT f' r22 s21) := by
  have cap := P.cap (k := 8) (by omega)
  have body : ∀ k, KJ_X2_term_39_5 cfK (KL_X2_term_5 cfK f) a k M = (obS (cfK (mnew (msI M 405 90 (nI (i + 1))) 8 0 8)) (fun w M18 => some (.inr (.inr w), M18)) fun r19 M18 => if ¬ mn M = 0 then ob (K_X8_init_2 (mn M) k a r19 0 M18) fun _ M24 => KL_X2_term_5 cfK f (mn M) M24 else none) := fun k => by
    unfold KJ_X2_term_39_5
    rw [nm_eq, P.i5, nI_addL, ifT (show mn (msI M 405 90 (nI (i + 1))) ≤ 601024 ∧ ms (msI M 405 90 (nI (i + 1))) + 8 ≤ 7293034 from cap), nm_eq, nm_eq]
    rfl
  rw [KL_X2_term_5, L_term_5, t_isBad0 P.g0, ob_some, ifT (rfl : (0 : Int32) = 0)]
  rcases y_sign P.px (c := 42) (by decide) with ⟨u1, u2, u3, u4, u5⟩ | ⟨u1, u2, u3⟩
  · right
    refine ⟨105, 8, Or.inl ⟨rfl, by decide⟩, u3, ?_, ?_⟩
    · rw [u1, ob_some, ifF (by decide)]
      unfold KJ_X2_term_23_5
      rw [u1, ob_some, ifF (by decide)]; exact body 105
    · rw [u2, ob_some, ifF (by decide)]
      unfold J_term_30_5
      rw [ifT u5]
  · rcases y_sign P.px (c := 47) (by decide) with ⟨v1, v2, v3, v4, v5⟩ | ⟨v1, v2, v3⟩
    · right
      refine ⟨106, 9, Or.inl ⟨rfl, by decide⟩, v3, ?_, ?_⟩
      · rw [u1, ob_some, ifT rfl, v1, ob_some, ifF (by decide)]
        unfold KJ_X2_term_23_5
        rw [u1, ob_some, ifT rfl]; exact body 106
      · rw [u2, ob_some, ifT rfl, v2, ob_some, ifF (by decide)]
        unfold J_term_30_5
        rw [v5, ifF (by decide)]
    · left
      constructor
      · rw [u1, ob_some, ifT rfl, v1, ob_some, ifT rfl]
      · rw [u2, ob_some, ifT rfl, v2, ob_some, ifT rfl]
theorem sum_step (f f' : Nat) (M : CM) (σ : TS) (i a x c s n : Nat) (P : Pe C M σ i dep c s n) (hc : 16 ≤ c) (hs : 2048 ≤ s) : (KL_X2_sum_33 cfK (f + 1) a M = some (.inl a, M) ∧ L_sum_43 cfT (f' + 1) (nI x) σ = some (nI x, σ)) ∨ (∃ k kt, ((0 : Nat) = 0 ∧ (k, kt) ∈ biL ∨ (0 : Nat) = 1 ∧ (k, kt) ∈ coL) ∧ i < ct C ∧ KL_X2_sum_33 cfK (f + 1) a M = (obS (cfK (mnew (msI M 405 90 (nI (i + 1))) 8 0 8)) (fun w M18 => some (.inr (.inr w), M18)) fun r19 M18 => if ¬ mn M = 0 then ob (K_X8_init_2 (mn M) k a r19 0 M18) fun _ M24 => KL_X2_sum_33 cfK f (mn M) M24 else none) ∧ L_sum_43 cfT (f' + 1) (nI x) σ = ob (F_next σ) fun _ s13 => ob (cfT s13) fun r18 s17 => ob (F_node kt (nI x) r18 0 s17) fun r22 s21 => L_sum_43 cfT f' r22 s21) := by
  have cap := P.cap (k := 8) (by omega)
  have body : ∀ k, KJ_X2_sum_67_33 cfK (KL_X2_sum_33 cfK f) a k M = (obS (cfK (mnew (msI M 405 90 (nI (i + 1))) 8 0 8)) (fun w M18 => some (.inr (.inr w), M18)) fun r19 M18 => if ¬ mn M = 0 then ob (K_X8_init_2 (mn M) k a r19 0 M18) fun _ M24 => KL_X2_sum_33 cfK f (mn M) M24 else none) := fun k => by
    unfold KJ_X2_sum_67_33
    rw [nm_eq, P.i5, nI_addL, ifT (show mn (msI M 405 90 (nI (i + 1))) ≤ 601024 ∧ ms (msI M 405 90 (nI (i + 1))) + 8 ≤ 7293034 from cap), nm_eq, nm_eq]
    rfl
  rw [KL_X2_sum_33, L_sum_43, t_isBad0 P.g0, ob_some, ifT (rfl : (0 : Int32) = 0)]
  rcases y_sign P.px (c := 43) (by decide) with ⟨u1, u2, u3, u4, u5⟩ | ⟨u1, u2, u3⟩
  · right
    refine ⟨103, 5, Or.inl ⟨rfl, by decide⟩, u3, ?_, ?_⟩
    · rw [u1, ob_some, ifF (by decide)]
      unfold KJ_X2_sum_51_33
      rw [u1, ob_some, ifF (by decide)]; exact body 103
    · rw [u2, ob_some, ifF (by decide)]
      unfold J_sum_68_43
      rw [ifT u5]
  · rcases y_sign P.px (c := 45) (by decide) with ⟨v1, v2, v3, v4, v5⟩ | ⟨v1, v2, v3⟩
    · right
      refine ⟨104, 6, Or.inl ⟨rfl, by decide⟩, v3, ?_, ?_⟩
      · rw [u1, ob_some, ifT rfl, v1, ob_some, ifF (by decide)]
        unfold KJ_X2_sum_51_33
        rw [u1, ob_some, ifT rfl]; exact body 104
      · rw [u2, ob_some, ifT rfl, v2, ob_some, ifF (by decide)]
        unfold J_sum_68_43
        rw [v5, ifF (by decide)]
    · left
      constructor
      · rw [u1, ob_some, ifT rfl, v1, ob_some, ifT rfl]
      · rw [u2, ob_some, ifT rfl, v2, ob_some, ifT rfl]
theorem both_step (f f' : Nat) (M : CM) (σ : TS) (i a x c s n : Nat) (P : Pe C M σ i dep c s n) (hc : 16 ≤ c) (hs : 2048 ≤ s) : (KL_X2_both_5 cfK (f + 1) a M = some (.inl a, M) ∧ L_ands_5 cfT (f' + 1) (nI x) σ = some (nI x, σ)) ∨ (∃ k kt, ((1 : Nat) = 0 ∧ (k, kt) ∈ biL ∨ (1 : Nat) = 1 ∧ (k, kt) ∈ coL) ∧ i < ct C ∧ KL_X2_both_5 cfK (f + 1) a M = (obS (cfK (mnew (msI M 405 90 (nI (i + 1))) 8 0 8)) (fun w M18 => some (.inr (.inr w), M18)) fun r19 M18 => if ¬ mn M = 0 then ob (K_X8_init_2 (mn M) k a r19 0 M18) fun _ M24 => KL_X2_both_5 cfK f (mn M) M24 else none) ∧ L_ands_5 cfT (f' + 1) (nI x) σ = ob (F_next σ) fun _ s13 => ob (cfT s13) fun r18 s17 => ob (F_node kt (nI x) r18 0 s17) fun r22 s21 => L_ands_5 cfT f' r22 s21) := by
  have cap := P.cap (k := 8) (by omega)
  rw [KL_X2_both_5, L_ands_5, t_isBad0 P.g0, ob_some, ifT (rfl : (0 : Int32) = 0)]
  rcases z_takeKey P (j := 23) (x := 23) (y := 6385252) rfl (by decide) (by decide) with ⟨σ1, u1, u2, u3, u4, u5, u6⟩ | ⟨u1, u2⟩
  · right
    refine ⟨23, 21, Or.inr ⟨rfl, by decide⟩, u6, ?_, ?_⟩
    · rw [u1, ob_some, ifF (by decide), ifT (show mn (msI M 405 90 (nI (i + 1))) ≤ 601024 ∧ ms (msI M 405 90 (nI (i + 1))) + 8 ≤ 7293034 from cap), nm_eq, nm_eq]
      rfl
    · rw [u2, ob_some, ifF (by decide)]
  · left
    constructor
    · rw [u1, ob_some, ifT rfl]
    · rw [u2, ob_some, ifT rfl]
theorem cond_step (f f' : Nat) (M : CM) (σ : TS) (i a x c s n : Nat) (P : Pe C M σ i dep c s n) (hc : 16 ≤ c) (hs : 2048 ≤ s) : (KL_X2_condition_5 cfK (f + 1) a M = some (.inl a, M) ∧ L_condition_5 cfT (f' + 1) (nI x) σ = some (nI x, σ)) ∨ (∃ k kt, ((1 : Nat) = 0 ∧ (k, kt) ∈ biL ∨ (1 : Nat) = 1 ∧ (k, kt) ∈ coL) ∧ i < ct C ∧ KL_X2_condition_5 cfK (f + 1) a M = (obS (cfK (mnew (msI M 405 90 (nI (i + 1))) 8 0 8)) (fun w M18 => some (.inr (.inr w), M18)) fun r19 M18 => if ¬ mn M = 0 then ob (K_X8_init_2 (mn M) k a r19 0 M18) fun _ M24 => KL_X2_condition_5 cfK f (mn M) M24 else none) ∧ L_condition_5 cfT (f' + 1) (nI x) σ = ob (F_next σ) fun _ s13 => ob (cfT s13) fun r18 s17 => ob (F_node kt (nI x) r18 0 s17) fun r22 s21 => L_condition_5 cfT f' r22 s21) := by
  have cap := P.cap (k := 8) (by omega)
  rw [KL_X2_condition_5, L_condition_5, t_isBad0 P.g0, ob_some, ifT (rfl : (0 : Int32) = 0)]
  rcases z_takeKey P (j := 24) (x := 24) (y := 28530) rfl (by decide) (by decide) with ⟨σ1, u1, u2, u3, u4, u5, u6⟩ | ⟨u1, u2⟩
  · right
    refine ⟨24, 22, Or.inr ⟨rfl, by decide⟩, u6, ?_, ?_⟩
    · rw [u1, ob_some, ifF (by decide), ifT (show mn (msI M 405 90 (nI (i + 1))) ≤ 601024 ∧ ms (msI M 405 90 (nI (i + 1))) + 8 ≤ 7293034 from cap), nm_eq, nm_eq]
      rfl
    · rw [u2, ob_some, ifF (by decide)]
  · left
    constructor
    · rw [u1, ob_some, ifT rfl]
    · rw [u2, ob_some, ifT rfl]
end LOOPS
