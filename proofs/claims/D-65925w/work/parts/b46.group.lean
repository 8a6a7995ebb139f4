/-! Layer B: whether a parenthesis holds a condition -/
set_option maxRecDepth 100000
theorem msI_id {M : CM} {g o : Nat} {v : Int32} (h : mI M g o = v) : msI M g o v = M := by
  unfold msI
  refine Prod.ext ?_ rfl
  funext g' o'
  show (if g' = g ∧ o' = o then v else M.1 g' o') = M.1 g' o'
  by_cases q : g' = g ∧ o' = o
  · rw [if_pos q, q.1, q.2]; exact h.symm
  · rw [if_neg q]
theorem msI_msI (M : CM) (g o : Nat) (u v : Int32) : msI (msI M g o u) g o v = msI M g o v := by
  unfold msI
  refine Prod.ext ?_ rfl
  funext g' o'
  show (if g' = g ∧ o' = o then v else if g' = g ∧ o' = o then u else M.1 g' o') = (if g' = g ∧ o' = o then v else M.1 g' o')
  by_cases q : g' = g ∧ o' = o
  · rw [if_pos q, if_pos q]
  · rw [if_neg q, if_neg q, if_neg q]
section GROUP
variable {C : PC} {M : CM} {σ σ' : TS} {b : Nat → Int32} {len m t i dep c s n : Nat} {pos : Nat → Nat}
/-- a sign of a relation stands here -/
theorem y_rel (P : Px M σ b len m t pos i) : (∃ k, K_X2_relation M = some (k, M) ∧ F_isRelation σ = some (1, σ) ∧ 0 ≤ k ∧ (k, tI σ 14) ∈ rlL ∧ i < t) ∨ (K_X2_relation M = some (-1, M) ∧ F_isRelation σ = some (0, σ)) := by
  obtain ⟨g1, g2⟩ := P.in1
  obtain ⟨-, -, -, -, ⟨kd, s, ⟨b1, b2, b3, b4, b5, b6⟩, b7⟩, -⟩ := P
  unfold K_X2_relation F_isRelation
  rw [ifT g1, g2, b4]
  have no : ∀ x : Int32, mA M 91 i = x → x = 1 ∨ x = 2 ∨ x = 3 ∨ x = 4 → (if mA M 91 i = 60 then some ((110 : Int32), M) else if mA M 91 i = 62 then some (111, M) else if mA M 91 i = 15421 then some (112, M) else if mA M 91 i = 15422 then some (115, M) else if mA M 91 i = 15677 then some (114, M) else if mA M 91 i = 15933 then some (113, M) else some (-1, M)) = some (-1, M) := by
    intro x hx h
    rw [hx]
    rcases h with rfl | rfl | rfl | rfl <;> rfl
  rcases b7 with ⟨q, q2⟩ | ⟨q, q2, _⟩ | ⟨q, q2, _⟩ | ⟨q, q2, q3⟩ | ⟨q, q2⟩
  · right; subst q; exact ⟨no 4 q2 (by decide), by rw [ifF (by decide)]⟩
  · right; subst q; exact ⟨no 1 q2 (by decide), by rw [ifF (by decide)]⟩
  · right; subst q; exact ⟨no 2 q2 (by decide), by rw [ifF (by decide)]⟩
  · subst q
    rw [q2, ifT (show nI 3 = (3 : Int32) from rfl)]
    have hi : i < t := b6.mpr (by decide)
    by_cases h1 : tI σ 14 = 60
    · left; rw [h1]; exact ⟨110, rfl, rfl, by decide, by decide, hi⟩
    by_cases h2 : tI σ 14 = 62
    · left; rw [h2]; exact ⟨111, rfl, rfl, by decide, by decide, hi⟩
    by_cases h3 : tI σ 14 = 15421
    · left; rw [h3]; exact ⟨112, rfl, rfl, by decide, by decide, hi⟩
    by_cases h4 : tI σ 14 = 15422
    · left; rw [h4]; exact ⟨115, rfl, rfl, by decide, by decide, hi⟩
    by_cases h5 : tI σ 14 = 15677
    · left; rw [h5]; exact ⟨114, rfl, rfl, by decide, by decide, hi⟩
    by_cases h6 : tI σ 14 = 15933
    · left; rw [h6]; exact ⟨113, rfl, rfl, by decide, by decide, hi⟩
    right
    exact ⟨by rw [ifF h1, ifF h2, ifF h3, ifF h4, ifF h5, ifF h6], by rw [ifF h1, ifF h2, ifF h3, ifF h6, ifF h5, ifF h4]⟩
  · right; subst q; exact ⟨no 3 q2 (by decide), by rw [ifF (by decide)]⟩
theorem y_sgn (P : Px M σ b len m t pos i) {x : Int32} (h : x ≠ 1 ∧ x ≠ 2 ∧ x ≠ 3 ∧ x ≠ 4) : (mA M 91 i = x ∧ F_isSign x σ = some (1, σ) ∧ i < t ∧ tI σ 11 = 3 ∧ tI σ 14 = x) ∨ (¬ mA M 91 i = x ∧ F_isSign x σ = some (0, σ)) := by
  obtain ⟨g1, g2⟩ := P.in1
  rcases y_sign P h with ⟨e1, e2, e3, e4, e5⟩ | ⟨e1, e2, e3⟩
  · left
    refine ⟨?_, e2, e3, e4, e5⟩
    unfold K_X2_isSign at e1
    rw [ifT g1, g2] at e1
    by_cases q : mA M 91 i = x
    · exact q
    · rw [ifF q] at e1; injection e1 with e1; injection e1 with e1 _; exact absurd e1 (by decide)
  · right
    refine ⟨fun q => ?_, e2⟩
    unfold K_X2_isSign at e1
    rw [ifT g1, g2, ifT q] at e1
    injection e1 with e1; injection e1 with e1 _; exact absurd e1 (by decide)
/-- what is read ahead is given back -/
def rst (v1 v2 v3 v4 : Int32) (s : TS) : TS := tsI (tsI (tsI (tsI (tsI (tsI s 10 v1) 12 v2) 13 v3) 18 v4) 11 3) 14 40
theorem scan (v1 v2 v3 v4 : Int32) (h404 : mI M 404 90 = nI (t + 1)) (h405 : mI M 405 90 = nI i) (ht : t < 2001) : ∀ (d k : Nat) (σk : TS) (o f f' : Nat), t - k ≤ d → d + 2 < f → d + 2 < f' → Px (msI M 405 90 (nI k)) σk b len m t pos k → 1 ≤ o → o + t - k < 100000 → ∃ bb σe, (bb = 0 ∨ bb = 1) ∧ (KL_X2_beginsCondition_7 f (nI o) (nI (k + 1)) M = some (.inl (), M) ∧ bb = 0 ∨ KL_X2_beginsCondition_7 f (nI o) (nI (k + 1)) M = some (.inr bb, M)) ∧ (ob (L_isGroup_24 f' v1 v2 v3 v4 (nI o) σk) fun _ s31 => J_isGroup_75 v1 v2 v3 v4 s31) = some (bb, rst v1 v2 v3 v4 σe) ∧ Ft sF_next σk σe := by
  intro d
  induction d with
  | zero =>
    intro k σk o f f' hd hf hf' P ho hbo
    obtain ⟨f, rfl⟩ : ∃ g, f = g + 1 := ⟨f - 1, by omega⟩
    obtain ⟨f', rfl⟩ : ∃ g, f' = g + 1 := ⟨f' - 1, by omega⟩
    have hk : k = t := by have := P.2.2.1.2.2; omega
    subst hk
    refine ⟨0, σk, Or.inl rfl, Or.inl ⟨?_, rfl⟩, ?_, Ft.rf _ _⟩
    · rw [KL_X2_beginsCondition_7, h404, ifT ((bI_le (by omega) (by omega)).mpr (Nat.le_refl _))]
    · rw [L_isGroup_24, ifF (show ¬ nI o ≤ 0 from by rw [show (0 : Int32) = nI 0 from rfl, bI_le (by omega) (by decide)]; omega)]
      obtain ⟨kd, s, ⟨b1, b2, b3, b4, b5, b6⟩, b7⟩ := P.2.2.2.2.1
      have hkd : kd = 0 ∨ kd = 4 := by
        have h : ¬ (kd = 1 ∨ kd = 2 ∨ kd = 3) := fun z => Nat.lt_irrefl _ (b6.mpr z)
        omega
      rcases hkd with rfl | rfl
      · rw [ifT (show tI σk 11 = 0 from b4), ob_some]
        unfold J_isGroup_75
        rw [ifT (show tI σk 11 = 0 from b4)]
        rfl
      · rw [ifF (show ¬ tI σk 11 = 0 from by rw [b4]; decide), ifT (show tI σk 11 = 4 from b4), ob_some]
        unfold J_isGroup_75
        rw [ifF (show ¬ tI σk 11 = 0 from by rw [b4]; decide), ifT (show tI σk 11 = 4 from b4)]
        rfl
  | succ d ih =>
    intro k σk o f f' hd hf hf' P ho hbo
    by_cases hkt : t - k ≤ d
    · exact ih k σk o f f' hkt (by omega) (by omega) P ho hbo
    obtain ⟨f, rfl⟩ : ∃ g, f = g + 1 := ⟨f - 1, by omega⟩
    obtain ⟨f', rfl⟩ : ∃ g, f' = g + 1 := ⟨f' - 1, by omega⟩
    have hk : k < t := by omega
    obtain ⟨σ1, n1, P1⟩ := y_next P hk
    rw [msI_msI] at P1
    have fr1 := fS_F_next _ _ _ n1
    obtain ⟨kd, s, ⟨b1, b2, b3, b4, b5, b6⟩, b7⟩ := P.2.2.2.2.1
    have hkd := b6.mp hk
    have h0 : ¬ tI σk 11 = 0 := by rw [b4, show (0 : Int32) = nI 0 from rfl, bI_eq (by omega) (by decide)]; omega
    have h4 : ¬ tI σk 11 = 4 := by rw [b4, show (4 : Int32) = nI 4 from rfl, bI_eq (by omega) (by decide)]; omega
    have hF : L_isGroup_24 (f' + 1) v1 v2 v3 v4 (nI o) σk = ob (F_isSign 40 σ1) fun r10 s9 => if r10 = 0 then ob (F_isSign 41 s9) fun r14 s13 => if r14 = 0 then L_isGroup_24 f' v1 v2 v3 v4 (nI o) s13 else nm (nI o + (-1)) fun v17 => L_isGroup_24 f' v1 v2 v3 v4 v17 s13 else nm (nI o + 1) fun v19 => ob (F_isSign 41 s9) fun r21 s20 => if r21 = 0 then L_isGroup_24 f' v1 v2 v3 v4 v19 s20 else nm (v19 + (-1)) fun v24 => L_isGroup_24 f' v1 v2 v3 v4 v24 s20 := by
      rw [L_isGroup_24, ifF (show ¬ nI o ≤ 0 from by rw [show (0 : Int32) = nI 0 from rfl, bI_le (by omega) (by decide)]; omega), ifF h0, ifF h4, n1, ob_some]
    have hin : inb (nI (k + 1)) 2001 := inb_nI' (by omega) (by decide)
    have hK : KL_X2_beginsCondition_7 (f + 1) (nI o) (nI (k + 1)) M = (if mA M 91 (k + 1) = 40 then KJ_X2_beginsCondition_47_7 (KL_X2_beginsCondition_7 f) (nI (k + 1)) (nI o) 1 M else if mA M 91 (k + 1) = 41 then KJ_X2_beginsCondition_47_7 (KL_X2_beginsCondition_7 f) (nI (k + 1)) (nI o) (-1) M else KJ_X2_beginsCondition_47_7 (KL_X2_beginsCondition_7 f) (nI (k + 1)) (nI o) 0 M) := by
      rw [KL_X2_beginsCondition_7, h404, ifF (by rw [bI_le (by omega) (by omega)]; omega), ifT hin, ix_nI (by omega), ifT hin]
    have go : ∀ o', 1 ≤ o' → o' ≤ o + 1 → ∃ bb σe, (bb = 0 ∨ bb = 1) ∧ (KL_X2_beginsCondition_7 f (nI o') (nI (k + 1 + 1)) M = some (.inl (), M) ∧ bb = 0 ∨ KL_X2_beginsCondition_7 f (nI o') (nI (k + 1 + 1)) M = some (.inr bb, M)) ∧ (ob (L_isGroup_24 f' v1 v2 v3 v4 (nI o') σ1) fun _ s31 => J_isGroup_75 v1 v2 v3 v4 s31) = some (bb, rst v1 v2 v3 v4 σe) ∧ Ft sF_next σk σe := by
      intro o' h1 h2
      obtain ⟨bb, σe, e1, e2, e3, e4⟩ := ih (k + 1) σ1 o' f f' (by omega) (by omega) (by omega) P1 h1 (by omega)
      exact ⟨bb, σe, e1, e2, e3, fr1.tr e4⟩
    have step : ∀ o' : Nat, 1 ≤ o' → o' < 200000 → ∀ y : Int32, nI o + y = nI o' → KJ_X2_beginsCondition_47_7 (KL_X2_beginsCondition_7 f) (nI (k + 1)) (nI o) y M = KL_X2_beginsCondition_7 f (nI o') (nI (k + 1 + 1)) M := by
      intro o' h1 h2 y hy
      unfold KJ_X2_beginsCondition_47_7
      rw [nm_eq, hy, ifF (show ¬ nI o' = 0 from by rw [show (0 : Int32) = nI 0 from rfl, bI_eq (by omega) (by decide)]; omega), nm_eq, nI_addL]
    have neg1 : ∀ z : Nat, 1 ≤ z → nI z + (-1) = nI (z - 1) := fun z hz => by
      rw [← Int32.sub_eq_add_neg, show (1 : Int32) = nI 1 from rfl, nI_sub hz]
    rcases y_sgn P1 (x := 40) (by decide) with ⟨u1, u2, u3, u4, u5⟩ | ⟨u1, u2⟩
    · have u1 : mA M 91 (k + 1) = 40 := u1
      have w2 : F_isSign 41 σ1 = some (0, σ1) := by
        rcases y_sgn P1 (x := 41) (by decide) with ⟨_, _, _, _, q⟩ | ⟨_, q⟩
        · rw [u5] at q; exact absurd q (by decide)
        · exact q
      rw [hF, hK, ifT u1, step (o + 1) (by omega) (by omega) 1 (nI_addL o 1), u2, ob_some, ifF (show ¬ (1 : Int32) = 0 from by decide), nm_eq, w2, ob_some, ifT (rfl : (0 : Int32) = 0), nI_addL]
      exact go (o + 1) (by omega) (by omega)
    · have u1 : ¬ mA M 91 (k + 1) = 40 := u1
      rcases y_sgn P1 (x := 41) (by decide) with ⟨w1, w2, w3, w4, w5⟩ | ⟨w1, w2⟩
      · have w1 : mA M 91 (k + 1) = 41 := w1
        rw [hF, hK, ifF u1, ifT w1, u2, ob_some, ifT (rfl : (0 : Int32) = 0), w2, ob_some, ifF (show ¬ (1 : Int32) = 0 from by decide), nm_eq, neg1 o ho]
        by_cases h1 : o = 1
        · subst h1
          obtain ⟨σ2, n2, P2⟩ := y_next P1 w3
          rw [msI_msI] at P2
          have fr2 := fS_F_next _ _ _ n2
          obtain ⟨f', rfl⟩ : ∃ g, f' = g + 1 := ⟨f' - 1, by omega⟩
          have back : ∀ u : Int32, msI (msI M 405 90 u) 405 90 (mI M 405 90) = M := fun u => by rw [msI_msI]; exact msI_id rfl
          rw [L_isGroup_24, ifT (show nI (1 - 1) ≤ 0 from by decide), ob_some]
          unfold J_isGroup_75
          rw [ifF (show ¬ tI σ1 11 = 0 from by rw [w4]; decide), ifF (show ¬ tI σ1 11 = 4 from by rw [w4]; decide)]
          unfold J_isGroup_95
          rw [ifF (show ¬ (1 : Int32) = 0 from by decide), n2, ob_some]
          unfold KJ_X2_beginsCondition_47_7
          rw [nm_eq, neg1 1 (by decide), ifT (show nI (1 - 1) = 0 from rfl), nm_eq, nm_eq, nI_addL]
          rcases y_rel P2 with ⟨r, r1, r2, r3, _, _⟩ | ⟨r1, r2⟩
          · rw [r1, ob_some, ifT r3, nm_eq, back, ifF (show ¬ (1 : Int32) = 0 from by decide), r2, ob_some, ifF (show ¬ (1 : Int32) = 0 from by decide)]
            exact ⟨0, σ2, Or.inl rfl, Or.inr rfl, rfl, fr1.tr fr2⟩
          · rw [r1, ob_some, ifF (by decide), r2, ob_some, ifT (rfl : (0 : Int32) = 0)]
            rcases y_sign P2 (c := 43) (by decide) with ⟨q1, q2, _⟩ | ⟨q1, q2, _⟩
            · rw [q1, ob_some, ifF (show ¬ (1 : Int32) = 0 from by decide), nm_eq, back, ifF (show ¬ (1 : Int32) = 0 from by decide), q2, ob_some, ifF (show ¬ (1 : Int32) = 0 from by decide)]
              exact ⟨0, σ2, Or.inl rfl, Or.inr rfl, rfl, fr1.tr fr2⟩
            rw [q1, ob_some, ifT (rfl : (0 : Int32) = 0), q2, ob_some, ifT (rfl : (0 : Int32) = 0)]
            rcases y_sign P2 (c := 45) (by decide) with ⟨q1, q2, _⟩ | ⟨q1, q2, _⟩
            · rw [q1, ob_some, ifF (show ¬ (1 : Int32) = 0 from by decide), nm_eq, back, ifF (show ¬ (1 : Int32) = 0 from by decide), q2, ob_some, ifF (show ¬ (1 : Int32) = 0 from by decide)]
              exact ⟨0, σ2, Or.inl rfl, Or.inr rfl, rfl, fr1.tr fr2⟩
            rw [q1, ob_some, ifT (rfl : (0 : Int32) = 0), q2, ob_some, ifT (rfl : (0 : Int32) = 0)]
            rcases y_sign P2 (c := 42) (by decide) with ⟨q1, q2, _⟩ | ⟨q1, q2, _⟩
            · rw [q1, ob_some, ifF (show ¬ (1 : Int32) = 0 from by decide), nm_eq, back, ifF (show ¬ (1 : Int32) = 0 from by decide), q2, ob_some, ifF (show ¬ (1 : Int32) = 0 from by decide)]
              exact ⟨0, σ2, Or.inl rfl, Or.inr rfl, rfl, fr1.tr fr2⟩
            rw [q1, ob_some, ifT (rfl : (0 : Int32) = 0), q2, ob_some, ifT (rfl : (0 : Int32) = 0)]
            rcases y_sign P2 (c := 47) (by decide) with ⟨q1, q2, _⟩ | ⟨q1, q2, _⟩
            · rw [q1, ob_some, ifF (show ¬ (1 : Int32) = 0 from by decide), nm_eq, back, ifF (show ¬ (1 : Int32) = 0 from by decide), q2, ob_some, ifF (show ¬ (1 : Int32) = 0 from by decide)]
              exact ⟨0, σ2, Or.inl rfl, Or.inr rfl, rfl, fr1.tr fr2⟩
            rw [q1, ob_some, ifT (rfl : (0 : Int32) = 0), nm_eq, back, ifT (rfl : (0 : Int32) = 0), q2, ob_some, ifT (rfl : (0 : Int32) = 0)]
            exact ⟨1, σ2, Or.inr rfl, Or.inr rfl, rfl, fr1.tr fr2⟩
        · rw [step (o - 1) (by omega) (by omega) (-1) (neg1 o ho)]
          exact go (o - 1) (by omega) (by omega)
      · have w1 : ¬ mA M 91 (k + 1) = 41 := w1
        rw [hF, hK, ifF u1, ifF w1, step o ho (by omega) 0 (Int32.add_zero _), u2, ob_some, ifT (rfl : (0 : Int32) = 0), w2, ob_some, ifT (rfl : (0 : Int32) = 0)]
        exact go o ho (by omega)
end GROUP
