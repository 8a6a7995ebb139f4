/-! Layer B: equations: one of them, counted -/
set_option maxRecDepth 100000
section UNIT
variable {C : PC} {M M' : CM} {σ σ' : TS} {i dep c s n c' s' k fl : Nat} {cfK : Int32 → CM → Option ((Nat ⊕ Nat) × CM)} {f1 f2 : TS → Option (Int32 × TS)} {x : Int32}
theorem t_cs {s : TS} (h : tI s 0 = 0) : F_cantStand s = some ((), tsI (tsI s 0 (if tI s 11 = 4 then 1 else 2)) 1 (tI s 12)) := by
  unfold F_cantStand
  by_cases h4 : tI s 11 = 4
  · rw [ifT h4, ifT h4, t_bad h, ob_some]
  · rw [ifF h4, ifF h4, t_bad h, ob_some]
theorem unit_ok (P : PE C M σ i dep c s n) (hc : 80 ≤ c) (hs : 8000 ≤ s) (hn : 20 ≤ n) (hfl : fl ≠ 1)
    (hB : ∀ (M1 : CM) (σ1 : TS), PE C M1 σ1 i dep c s n → (¬ tI σ1 11 = 0 ∧ ¬ tI σ1 11 = 4) → Rje C M1 σ1 (GE C M1 σ1 i dep c' s' n fl) (cfK x M1) (tEqB f1 f2 x σ1))
    (hE : ∀ (M1 : CM) (σ1 : TS), PE C M1 σ1 i dep c s n → (tI σ1 11 = 0 ∨ tI σ1 11 = 4) → cfK x M1 = kE61 (mn M1) (eqM M1 61)) :
    Rje C M σ (GE C M σ i dep c' s' n fl) (kU cfK x M) (B_readEquation f1 f2 x σ) := by
  obtain ⟨k, k1, k2, k3⟩ := P.2.2.1
  have mo10 := P.2.1.1.1
  have h167 := P.1.n167
  have cap := P.1.cap (k := 8) (by omega)
  obtain ⟨g1, g2⟩ := P.1.px.in1
  have e18 : ∀ v, mI (msI M 1804 (mR M 411 90) v) 1804 (mR (msI M 1804 (mR M 411 90) v) 411 90) = v := fun v => by
    show mI (msI M 1804 (mR M 411 90) v) 1804 (mR M 411 90) = v
    rw [mI_msI, ifT ⟨rfl, rfl⟩]
  unfold kU
  rw [ifT mo10, nm_eq, k1, nI_addL, ifT (show mk (msI M 1804 (mR M 411 90) (nI (k + 1))) (mR (msI M 1804 (mR M 411 90) (nI (k + 1))) 411 90) = 10 from mo10), e18]
  obtain ⟨kd, sp, ⟨b1, b2, b3, b4, b5, b6⟩, b7⟩ := P.1.px.2.2.2.2.1
  by_cases hk : k = 40
  · subst hk
    have e405 : mI (msI M 1804 (mR M 411 90) (nI (40 + 1))) 405 90 = mI M 405 90 := by rw [mI_msI, ifF (by omega)]
    have kw : ∀ r p, K_X0_wrong r p (msI M 1804 (mR M 411 90) (nI (40 + 1))) = some (mn M, wM (msI M 1804 (mR M 411 90) (nI (40 + 1))) r p) := fun r p => k_wrong (M := msI M 1804 (mR M 411 90) (nI (40 + 1))) cap (by show mn M ≠ 0; omega) r p
    have e91 : mA (msI M 1804 (mR M 411 90) (nI (40 + 1))) 91 i = mA M 91 i := rfl
    have e94 : mA (msI M 1804 (mR M 411 90) (nI (40 + 1))) 94 i = nI sp := b1
    rw [ifF (show ¬ nI (40 + 1) ≤ (40 : Int32) from by decide)]
    have fin : ∀ r : Int32, r ≠ 0 → B_readEquation f1 f2 x σ = some (0, tsI (tsI σ 0 r) 1 (nI sp)) → K_X2_tooMany (msI M 1804 (mR M 411 90) (nI (40 + 1))) = some (mn M, wM (msI M 1804 (mR M 411 90) (nI (40 + 1))) r (nI sp)) → Rje C M σ (GE C M σ i dep c' s' n fl) (ob (K_X2_tooMany (msI M 1804 (mR M 411 90) (nI (40 + 1)))) fun r24 M23 => if mk M23 r24 = 7 then some (.inr r24, M23) else none) (B_readEquation f1 f2 x σ) := fun r hr h1 h2 => by
      rw [h1, h2, ob_some, ifT (show mk (wM (msI M 1804 (mR M 411 90) (nI (40 + 1))) r (nI sp)) (mn M) = 7 from wM_k (msI M 1804 (mR M 411 90) (nI (40 + 1))) r (nI sp))]
      exact Or.inr ⟨mn M, _, _, _, rfl, rfl, cnt_fb P (by omega) (by omega) (nI (40 + 1)) hr⟩
    have T0 : tI σ 11 = 0 → B_readEquation f1 f2 x σ = some (0, tsI (tsI σ 0 2) 1 (nI sp)) := fun h => by
      unfold B_readEquation
      rw [ifT h, t_cs P.1.g0, ob_some, ifF (show ¬ tI σ 11 = 4 from by rw [h]; decide), b3]
    have T4 : tI σ 11 = 4 → B_readEquation f1 f2 x σ = some (0, tsI (tsI σ 0 1) 1 (nI sp)) := fun h => by
      unfold B_readEquation
      rw [ifF (show ¬ tI σ 11 = 0 from by rw [h]; decide), ifT h, t_cs P.1.g0, ob_some, ifT h, b3]
    have T7 : ¬ tI σ 11 = 0 → ¬ tI σ 11 = 4 → B_readEquation f1 f2 x σ = some (0, tsI (tsI σ 0 7) 1 (nI sp)) := fun h h' => by
      unfold B_readEquation
      rw [ifF h, ifF h', ifT (show tI σ 73 = 40 from k2), t_bad P.1.g0, ob_some, b3]
    have K7 : ¬ mA M 91 i = 3 → ¬ mA M 91 i = 4 → K_X2_tooMany (msI M 1804 (mR M 411 90) (nI (40 + 1))) = some (mn M, wM (msI M 1804 (mR M 411 90) (nI (40 + 1))) 7 (nI sp)) := fun h h' => by
      unfold K_X2_tooMany
      simp only [e405, ifT g1, g2, e91, e94, ifF h, ifF h', kw, ob_some]
    rcases b7 with ⟨q, q2⟩ | ⟨q, q2, _⟩ | ⟨q, q2, _⟩ | ⟨q, q2, q3⟩ | ⟨q, q2⟩
    · subst q
      refine fin 2 (by decide) (T0 b4) ?_
      unfold K_X2_tooMany K_X2_stop
      simp only [e405, ifT g1, g2, e91, e94, ifF (show ¬ mA M 91 i = 3 from by rw [q2]; decide), ifT q2, kw, ob_some]
    · subst q
      exact fin 7 (by decide) (T7 (by rw [b4]; decide) (by rw [b4]; decide)) (K7 (by rw [q2]; decide) (by rw [q2]; decide))
    · subst q
      exact fin 7 (by decide) (T7 (by rw [b4]; decide) (by rw [b4]; decide)) (K7 (by rw [q2]; decide) (by rw [q2]; decide))
    · subst q
      have n34 : ∀ v : Int32, v = 3 ∨ v = 4 → ¬ mA M 91 i = v := fun v hv z => by
        rw [q2] at z
        rw [z] at q3
        rcases hv with rfl | rfl
        · rcases q3 with h | h | h | h | h
          · rcases h with h | h | h | h | h | h | h | h | h | h | h | h | h | h | h <;> exact absurd h (by decide)
          all_goals exact absurd h (by decide)
        · rcases q3 with h | h | h | h | h
          · rcases h with h | h | h | h | h | h | h | h | h | h | h | h | h | h | h <;> exact absurd h (by decide)
          all_goals exact absurd h (by decide)
      exact fin 7 (by decide) (T7 (by rw [b4]; decide) (by rw [b4]; decide)) (K7 (n34 3 (Or.inl rfl)) (n34 4 (Or.inr rfl)))
    · subst q
      refine fin 1 (by decide) (T4 b4) ?_
      unfold K_X2_tooMany K_X2_stop
      simp only [e405, ifT g1, g2, e91, e94, ifT q2, kw, ob_some]
  · obtain ⟨P1, E1⟩ := P.cnt k1 (by omega)
    rw [ifT (show nI (k + 1) ≤ (40 : Int32) from (nI_leL (by omega) (by decide)).mpr (by show k + 1 ≤ 40; omega))]
    by_cases h0 : tI σ 11 = 0 ∨ tI σ 11 = 4
    · rw [hE _ _ P1 h0]
      have hT : B_readEquation f1 f2 x σ = some (0, tsI (tsI σ 0 (if tI σ 11 = 4 then 1 else 2)) 1 (tI σ 12)) := by
        unfold B_readEquation
        by_cases h : tI σ 11 = 0
        · rw [ifT h, t_cs P.1.g0, ob_some]
        · rw [ifF h, ifT (by rcases h0 with q | q; exact absurd q h; exact q), t_cs P.1.g0, ob_some]
      have hr : (if tI σ 11 = 4 then (1 : Int32) else 2) ≠ 0 := by
        by_cases h : tI σ 11 = 4
        · rw [ifT h]; decide
        · rw [ifF h]; decide
      have hst : F_expression (tsI σ 73 (nI (k + 1))) = some (0, tsI (tsI (tsI σ 73 (nI (k + 1))) 0 (if tI σ 11 = 4 then 1 else 2)) 1 (tI σ 12)) := by
        refine t_expr_stop (t_cs P1.1.g0) hr P1.1.g0 ?_ ?_ ?_ ?_
        · rcases P1.1.en.2.2.2.2 with q | ⟨q, _⟩
          · exact q.2.2
          · have := P1.2.2.2.2.1.2.1; omega
        · show ¬ tI σ 11 = 2
          rcases h0 with q | q <;> rw [q] <;> decide
        · show ¬ tI σ 11 = 3
          rcases h0 with q | q <;> rw [q] <;> decide
        · intro z
          have z : tI σ 11 = 1 := z
          rcases h0 with q | q <;> rw [q] at z <;> exact absurd z (by decide)
      have hw : BWe C (tsI (tsI (tsI σ 73 (nI (k + 1))) 0 (if tI σ 11 = 4 then 1 else 2)) 1 (tI σ 12)) (J_readEquation_158 f1 f2 (tsI σ 73 (nI (k + 1)))) := by
        unfold J_readEquation_158 F_sumOrIf
        rw [ob_id, hst, ob_some]
        obtain ⟨e1, e2, e3⟩ := P1.e1
        have hcxP1 := P1.cx
        exact ((by intro σ1 r s hb; repeat' (first | with_reducible (exact BWe.sm hb) | with_reducible (refine BWe.bo (BWe.o hb (bw_next hb.br)) ?_; intro r s hb) | with_reducible (refine BWe.bo (BWe.o hb (bw_ref hb.br)) ?_; intro r s hb) | with_reducible (refine BWe.bo (BWe.o hb (bw_passName hb.br)) ?_; intro r s hb) | with_reducible (refine BWe.bo (BWe.o hb (bw_Fexpression hb.br)) ?_; intro r s hb) | with_reducible (refine BWe.bo (BWe.o hb (bw_Fcondition hb.br)) ?_; intro r s hb) | with_reducible (refine BWe.bo (BWe.o hb (bw_pass hb.br _)) ?_; intro r s hb) | with_reducible (refine BWe.bo (BWe.o hb (bw_isSign hb.br _)) ?_; intro r s hb) | with_reducible (refine BWe.bo (BWe.o hb (bw_passWhole hb.br _)) ?_; intro r s hb) | with_reducible (refine BWe.bo (BWe.o hb (bw_passWord hb.br _)) ?_; intro r s hb) | with_reducible (refine BWe.bo (BWe.o hb (bw_isWord hb.br _)) ?_; intro r s hb) | with_reducible (refine BWe.eq hb _ _ _ _ ?_; intro j s hj1 hj2 hj3 hb) | with_reducible (refine BWe.nmI hb (by decide) ?_; intro s hb) | with_reducible (refine BWe.nmB hb (by assumption) (by assumption) ?_; intro s hb) | with_reducible (refine BWe.isBad hb ?_) | with_reducible (refine BWe.itT (inb_nI' (by assumption) (by decide)) ?_) | with_reducible (refine BWe.ite ?_ ?_) | exact BWe.sm hb | (refine BWe.bo (BWe.o hb (bw_next hb.br)) ?_; intro r s hb) | (refine BWe.bo (BWe.o hb (bw_ref hb.br)) ?_; intro r s hb) | (refine BWe.bo (BWe.o hb (bw_passName hb.br)) ?_; intro r s hb) | (refine BWe.bo (BWe.o hb (bw_Fexpression hb.br)) ?_; intro r s hb) | (refine BWe.bo (BWe.o hb (bw_Fcondition hb.br)) ?_; intro r s hb) | (refine BWe.bo (BWe.o hb (bw_pass hb.br _)) ?_; intro r s hb) | (refine BWe.bo (BWe.o hb (bw_isSign hb.br _)) ?_; intro r s hb) | (refine BWe.bo (BWe.o hb (bw_passWhole hb.br _)) ?_; intro r s hb) | (refine BWe.bo (BWe.o hb (bw_passWord hb.br _)) ?_; intro r s hb) | (refine BWe.bo (BWe.o hb (bw_isWord hb.br _)) ?_; intro r s hb) | (refine BWe.eq hb _ _ _ _ ?_; intro j s hj1 hj2 hj3 hb) | (refine BWe.nmI hb (by decide) ?_; intro s hb) | (refine BWe.nmB hb (by assumption) (by assumption) ?_; intro s hb) | refine BWe.isBad hb ?_ | refine BWe.itT (inb_nI' (by assumption) (by decide)) ?_ | refine BWe.ite ?_ ?_)) : ∀ σ1 (_ : Unit) s, Bre C σ1 s → BWe C σ1 (ob (F_pass 61 s) fun r27 s26 => ob (F_expression s26) fun r31 s30 => ob (F_pass 59 s30) fun r35 s34 => ob (F_eq 1 0 r31 0 s34) fun r39 s38 => some (r39, s38))) _ () _ (Bre.rf ⟨P1.1.bd0 hr, tE (tsI σ 73 (nI (k + 1))), e1, e2, by omega⟩)
      obtain ⟨y0, s0, w1, w2⟩ := hw
      rw [hT]
      rcases eqn_61 P1 hc hs hn hfl f1 f2 with ⟨a, M', y, σ', e1, e2, e, i', d, z1, z2, _⟩ | ⟨w, M', y, σ', e1, e2, fb⟩
      · rw [w1] at e2
        injection e2 with e2; injection e2 with _ e2
        subst e2
        have := z2.1.g0
        rw [w2.1] at this
        exact absurd this hr
      · rw [w1] at e2
        injection e2 with e2; injection e2 with _ e2
        subst e2
        rw [e1]
        obtain ⟨⟨a1, a2, a3, a4, a5⟩, ⟨K, bs, l95⟩, f, cp', bd⟩ := fb
        obtain ⟨t1, t2, t3⟩ := P.e1
        have hcxP := P.cx
        refine Or.inr ⟨w, M', _, _, rfl, rfl, ⟨a1, a2, by rw [a3, w2.1]; rfl, by rw [a4, w2.2.1]; rfl, hr⟩, ⟨E1.1.tr K, bs, l95⟩, ?_, cp', P.1.bd0 hr, tE σ, t1, t2, by omega⟩
        exact Fe.ft (((Ft.rf [0, 1] σ).p_tsI rfl).p_tsI rfl) (by decide) (by decide) (by decide)
    · have e73 : ¬ tI σ 73 = 40 := by rw [k2, show (40 : Int32) = nI 40 from rfl, bI_eq (by omega) (by decide)]; exact hk
      rw [tEq_as (fun z => h0 (Or.inl z)) (fun z => h0 (Or.inr z)) e73, k2, nI_addL]
      exact GE.base E1 (Nat.le_refl _) P.1.nf12 (hB _ _ P1 ⟨fun z => h0 (Or.inl z), fun z => h0 (Or.inr z)⟩)
end UNIT
