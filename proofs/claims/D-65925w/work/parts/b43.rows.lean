/-! Layer B: term, and, or; sum -/
set_option maxRecDepth 100000
section ROWS
variable {C : PC} {M M' Mb : CM} {σ σ' σb : TS} {i ib dep depb c s n so : Nat} {cfK : CM → Option ((Nat ⊕ Nat) × CM)} {cfT : TS → Option (Int32 × TS)}
theorem row_ok {LK : Nat → Nat → CM → Option ((Nat ⊕ (Nat ⊕ Nat)) × CM)} {LT : Nat → Int32 → TS → Option (Int32 × TS)}
    (step : ∀ (f f' : Nat) (M : CM) (σ : TS) (i a x c s n : Nat), Pe C M σ i dep c s n → 16 ≤ c → 2048 ≤ s → (LK (f + 1) a M = some (.inl a, M) ∧ LT (f' + 1) (nI x) σ = some (nI x, σ)) ∨ (∃ k kt, (so = 0 ∧ (k, kt) ∈ biL ∨ so = 1 ∧ (k, kt) ∈ coL) ∧ i < ct C ∧ LK (f + 1) a M = (obS (cfK (mnew (msI M 405 90 (nI (i + 1))) 8 0 8)) (fun w M18 => some (.inr (.inr w), M18)) fun r19 M18 => if ¬ mn M = 0 then ob (K_X8_init_2 (mn M) k a r19 0 M18) fun _ M24 => LK f (mn M) M24 else none) ∧ LT (f' + 1) (nI x) σ = ob (F_next σ) fun _ s13 => ob (cfT s13) fun r18 s17 => ob (F_node kt (nI x) r18 0 s17) fun r22 s21 => LT f' r22 s21))
    (hbad : ∀ (f' : Nat) (σ' s' : TS) (r : Int32), Br C σ' s' → BW C σ' (LT (f' + 1) r s'))
    (sub : ∀ (M : CM) (σ : TS) (i' c s n : Nat), i ≤ i' → 64 ≤ c → 4096 ≤ s → 16 ≤ n → Pe C M σ i' dep c s n → Ok C M σ i' dep c s n so (cfK M) (cfT σ))
    (P : Pe C M σ i dep c s n) (hc : 64 ≤ c) (hs : 4096 ≤ s) (hn : 16 ≤ n) :
    Ok C M σ i dep c s n so (obS (cfK M) (fun w5 M1 => some (.inr w5, M1)) fun r2 M1 => obS (LK FU r2 M1) (fun r28 M25 => some (r28, M25)) fun q24 M25 => some (.inl q24, M25)) (ob (cfT σ) fun r2 s1 => ob (LT FU r2 s1) fun q45 s46 => some (q45, s46)) := by
  rcases sub M σ i c s n (Nat.le_refl _) hc hs hn P with ⟨a, M1, x, σ1, i1, a1, a2, a3, a4, a5, a6⟩ | ⟨w, M1, y, σ1, a1, a2, a3⟩
  · rw [a1, obS_inl, a2, ob_some]
    rcases loop_gen (Mb := M) (σb := σ) (ib := i) P.n167 step hbad (fun M σ i' c s n h => sub M σ i' c s n h) 2001 M1 σ1 i1 a x FU FU (by have := P.it; omega) (by have := FUb; omega) (by have := FUb; omega) (by omega) a5 a3 hc hs hn a6 with ⟨a', M4, x', σ4, i4, q1, q2, q3, q4, q5, q6⟩ | ⟨w, M4, y, σ4, q1, q2, q3⟩
    · rw [q1, obS_inl, q2, ob_some]
      exact Or.inl ⟨a', M4, x', σ4, i4, rfl, rfl, q3, by omega, q5, q6⟩
    · rw [q1, obS_inr, q2, ob_some]
      exact Or.inr ⟨w, M4, y, σ4, rfl, rfl, q3⟩
  · rw [a1, obS_inr, a2, ob_some]
    obtain ⟨y2, s2, e2, g2⟩ := hbad (FU - 1) σ1 σ1 y a3.bd
    have e2 : LT FU y σ1 = some (y2, s2) := e2
    rw [e2, ob_some]
    exact Or.inr ⟨w, M1, y2, s2, rfl, rfl, a3.br g2⟩
theorem term_ok (dK dT : Nat) (sub : ∀ (M : CM) (σ : TS) (i' c s n : Nat), i ≤ i' → 64 ≤ c → 4096 ≤ s → 16 ≤ n → Pe C M σ i' dep c s n → Ok C M σ i' dep c s n 0 ((KG_X2_both dK).2.2.2.1 M) ((G_ands dT).2.2.2.2.1 σ)) (P : Pe C M σ i dep c s n) (hc : 64 ≤ c) (hs : 4096 ≤ s) (hn : 16 ≤ n) : Ok C M σ i dep c s n 0 ((KG_X2_both (dK + 1)).2.2.2.2.2.2.1 M) ((G_ands (dT + 1)).2.2.2.2.2.2.2.1 σ) := by
  show Ok C M σ i dep c s n 0 (KB_X2_term (KG_X2_both dK).2.2.2.1 M) (B_term (G_ands dT).2.2.2.2.1 σ)
  unfold KB_X2_term B_term
  exact row_ok (LK := KL_X2_term_5 (KG_X2_both dK).2.2.2.1) (LT := L_term_5 (G_ands dT).2.2.2.2.1) term_step (fun f' σ' s' r hb => bw_Lterm hb f' r) sub P hc hs hn
theorem both_ok (dK dT : Nat) (sub : ∀ (M : CM) (σ : TS) (i' c s n : Nat), i ≤ i' → 64 ≤ c → 4096 ≤ s → 16 ≤ n → Pe C M σ i' dep c s n → Ok C M σ i' dep c s n 1 ((KG_X2_both dK).2.2.2.2.2.2.2 M) ((G_ands dT).2.2.2.2.2.2.2.2 σ)) (P : Pe C M σ i dep c s n) (hc : 64 ≤ c) (hs : 4096 ≤ s) (hn : 16 ≤ n) : Ok C M σ i dep c s n 1 ((KG_X2_both (dK + 1)).1 M) ((G_ands (dT + 1)).1 σ) := by
  show Ok C M σ i dep c s n 1 (KB_X2_both (KG_X2_both dK).2.2.2.2.2.2.2 M) (B_ands (G_ands dT).2.2.2.2.2.2.2.2 σ)
  unfold KB_X2_both B_ands
  exact row_ok (LK := KL_X2_both_5 (KG_X2_both dK).2.2.2.2.2.2.2) (LT := L_ands_5 (G_ands dT).2.2.2.2.2.2.2.2) both_step (fun f' σ' s' r hb => bw_Lands hb f' r) sub P hc hs hn
theorem cond_ok (dK dT : Nat) (sub : ∀ (M : CM) (σ : TS) (i' c s n : Nat), i ≤ i' → 64 ≤ c → 4096 ≤ s → 16 ≤ n → Pe C M σ i' dep c s n → Ok C M σ i' dep c s n 1 ((KG_X2_both dK).1 M) ((G_ands dT).1 σ)) (P : Pe C M σ i dep c s n) (hc : 64 ≤ c) (hs : 4096 ≤ s) (hn : 16 ≤ n) : Ok C M σ i dep c s n 1 ((KG_X2_both (dK + 1)).2.1 M) ((G_ands (dT + 1)).2.2.1 σ) := by
  show Ok C M σ i dep c s n 1 (KB_X2_condition (KG_X2_both dK).1 M) (B_condition (G_ands dT).1 σ)
  unfold KB_X2_condition B_condition
  exact row_ok (LK := KL_X2_condition_5 (KG_X2_both dK).1) (LT := L_condition_5 (G_ands dT).1) cond_step (fun f' σ' s' r hb => bw_Lcond hb f' r) sub P hc hs hn
theorem sum_ok (dK dT : Nat) (sub : ∀ (M : CM) (σ : TS) (i' c s n : Nat), i ≤ i' → 64 ≤ c → 4096 ≤ s → 16 ≤ n → Pe C M σ i' dep c s n → Ok C M σ i' dep c s n 0 ((KG_X2_both dK).2.2.2.2.2.2.1 M) ((G_ands dT).2.2.2.2.2.2.2.1 σ)) (P : Pe C M σ i dep c s n) (hc : 64 ≤ c) (hs : 4096 ≤ s) (hn : 16 ≤ n) : Ok C M σ i dep c s n 0 ((KG_X2_both (dK + 1)).2.2.2.2.2.1 M) ((G_ands (dT + 1)).2.2.2.2.2.2.1 σ) := by
  show Ok C M σ i dep c s n 0 (KB_X2_sum (KG_X2_both dK).2.2.2.2.2.2.1 M) (B_sum (G_ands dT).2.2.2.2.2.2.2.1 σ)
  generalize (KG_X2_both dK).2.2.2.2.2.2.1 = cfK at sub ⊢
  generalize (G_ands dT).2.2.2.2.2.2.2.1 = cfT at sub ⊢
  have h167 := P.n167
  -- the rest, once the first part stands
  have rest : ∀ (M1 : CM) (σ1 : TS) (i1 a x : Nat), i < i1 → Es M σ M1 σ1 → Pe C M1 σ1 i1 dep c s n → Rs C M M1 σ1 0 a x → Ok C M σ i dep c s n 0 (KJ_X2_sum_32 cfK a M1) (ob (L_sum_43 cfT FU (nI x) σ1) fun q53 s54 => some (q53, s54)) := by
    intro M1 σ1 i1 a x hi E1 P1 hR
    unfold KJ_X2_sum_32
    rcases loop_gen (Mb := M) (σb := σ) (ib := i) (so := 0) (LK := KL_X2_sum_33 cfK) (LT := L_sum_43 cfT) h167 sum_step (fun f' σ' s' r hb => bw_Lsum hb f' r) (fun M σ i' c s n h => sub M σ i' c s n h) 2001 M1 σ1 i1 a x FU FU (by have := P.it; omega) (by have := FUb; omega) (by have := FUb; omega) (by omega) E1 P1 hc hs hn hR with ⟨a', M4, x', σ4, i4, q1, q2, q3, q4, q5, q6⟩ | ⟨w, M4, y, σ4, q1, q2, q3⟩
    · rw [q1, obS_inl, q2, ob_some]
      exact Or.inl ⟨a', M4, x', σ4, i4, rfl, rfl, q3, by omega, q5, q6⟩
    · rw [q1, obS_inr, q2, ob_some]
      exact Or.inr ⟨w, M4, y, σ4, rfl, rfl, q3⟩
  have bad : ∀ (w : Nat) (M1 : CM) (σ1 : TS) (y : Int32), FB C M σ M1 w σ1 → Ok C M σ i dep c s n 0 (some (.inr w, M1)) (ob (L_sum_43 cfT FU y σ1) fun q53 s54 => some (q53, s54)) := by
    intro w M1 σ1 y fb
    obtain ⟨y2, s2, e2, g2⟩ := bw_Lsum (cf := cfT) fb.bd (FU - 1) y
    have e2 : L_sum_43 cfT FU y σ1 = some (y2, s2) := e2
    rw [e2, ob_some]
    exact Or.inr ⟨w, M1, y2, s2, rfl, rfl, fb.br g2⟩
  unfold KB_X2_sum B_sum
  rw [t_isBad0 P.g0, ob_some, ifT (rfl : (0 : Int32) = 0)]
  rcases z_take P (x := 45) (by decide) with ⟨σ1, u1, u2, u3, u4, u5, u6⟩ | ⟨u1, u2⟩
  · rw [u1, ob_some, u2, ob_some, ifF (show ¬ (1 : Int32) = 0 from by decide), u3, ob_some]
    unfold J_sum_24
    rcases sub _ σ1 (i + 1) (c + 16) (s + 2048) (n + 4) (by omega) (by omega) (by omega) (by omega) u4 with ⟨a, M1, x, σ2, i1, a1, a2, a3, a4, a5, a6⟩ | ⟨w, M1, y, σ2, a1, a2, a3⟩
    · rw [a1, obS_inl, a2, ob_some, ifF (show ¬ (1 : Int32) = 0 from by decide), ifF (show ¬ (1 : Int32) = 0 from by decide)]
      have cap := a3.cap (k := 8) (by omega)
      have F5 : Fz none_ M1 (mnew M1 8 0 8) := Fz.rf.mnew
      have P5 := a3.al F5 (c' := c + 15) (s' := s) (by rw [mn_mnew]; omega) (by rw [ms_mnew]; omega)
      have hk5 : mk (mnew M1 8 0 8) (mn M1) = 8 := by rw [mk_mnew, ifT rfl]
      obtain ⟨σ4, m1, m2, m3, m4, ⟨m5, m6, m7, m8⟩, ⟨m9, m10, m11, m12⟩, -⟩ := mk_node a3 (Es.al F5 a3.n167) (P5.wk (c' := c) (s' := s) (n' := n + 1) (by omega) (by omega) (by omega)) (v := mn M1) ⟨Nat.le_refl _, by rw [mn_mnew]; omega⟩ hk5 107 a 0 0 7 (nI x) 0 0
      obtain ⟨j1, j2, j3, j4, j5, j6, j7, j8⟩ := iM_ok (mnew M1 8 0 8) (mn M1) 107 a 0 0
      rw [ifT cap, nm_eq, nm_eq, ifT (by have := a3.n167; omega), m1, ob_some, m2, ob_some]
      have E1 : Es M σ M1 σ2 := u5.tr a5
      have hl : Rs C M (iM (mnew M1 8 0 8) (mn M1) 107 a 0 0) σ4 0 a x := (a6.dn a3 (by rw [mnI]; exact Nat.le_refl _)).mv a3 h167 m4
      refine rest _ σ4 i1 (mn M1) (tN σ2) (by omega) (E1.tr m4) m3 ?_
      refine Rs.n1 m3 ⟨⟨E1.1.1, by rw [j2, mn_mnew]; omega⟩, by rw [j4]; exact hk5, m8, by omega⟩ (Or.inl ⟨rfl, by rw [j5, m9]; decide⟩) j7 j8 m10 (by rw [j6]; exact hl)
    · rw [a1, obS_inr, a2, ob_some, ifF (show ¬ (1 : Int32) = 0 from by decide)]
      have fb := a3.tr u5
      obtain ⟨y3, s3, e3, g3⟩ := bw_node fb.bd 7 y 0 0
      rw [e3, ob_some]
      exact bad w M1 s3 y3 (fb.br g3)
  · rw [u1, ob_some, u2, ob_some, ifT (rfl : (0 : Int32) = 0)]
    unfold J_sum_24
    rcases sub M σ i c s n (Nat.le_refl _) hc hs hn P with ⟨a, M1, x, σ2, i1, a1, a2, a3, a4, a5, a6⟩ | ⟨w, M1, y, σ2, a1, a2, a3⟩
    · rw [a1, obS_inl, a2, ob_some, ifT (rfl : (0 : Int32) = 0), ifT (rfl : (0 : Int32) = 0)]
      exact rest M1 σ2 i1 a x a4 a5 a3 a6
    · rw [a1, obS_inr, a2, ob_some, ifT (rfl : (0 : Int32) = 0)]
      exact bad w M1 σ2 y a3
end ROWS
