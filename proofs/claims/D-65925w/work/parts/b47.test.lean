/-! Layer B: tests -/
set_option maxRecDepth 100000
section TEST
variable {C : PC} {M : CM} {σ : TS} {i dep c s n : Nat}
theorem z_group (P : Pe C M σ i dep c s n) (h11 : tI σ 11 = 3) (h14 : tI σ 14 = 40) (h91 : mA M 91 i = 40) (hi : i < ct C) : ∃ bb σ', (bb = 0 ∨ bb = 1) ∧ K_X2_beginsCondition M = some (bb, M) ∧ F_isGroup σ = some (bb, σ') ∧ Pe C M σ' i dep c s n ∧ Es M σ M σ' := by
  have ht := P.it
  have h405 := P.i5
  have Pi : Px (msI M 405 90 (nI i)) σ (cb C) (cl C) (cm C) (ct C) (cp C) i := by rw [msI_id h405]; exact P.px
  obtain ⟨bb, σe, e1, e2, e3, e4⟩ := scan (M := M) (i := i) (tI σ 10) (tI σ 12) (tI σ 13) (tI σ 18) P.px.2.2.1.1 h405 ht.2 2001 i σ 1 (FU - 1) FU (by omega) (by have := FUb; omega) (by have := FUb; omega) Pi (Nat.le_refl _) (by omega)
  have f' : Ft sF_next σ (rst (tI σ 10) (tI σ 12) (tI σ 13) (tI σ 18) σe) := (((((e4.p_tsI rfl).p_tsI rfl).p_tsI rfl).p_tsI rfl).p_tsI rfl).p_tsI rfl
  refine ⟨bb, rst (tI σ 10) (tI σ 12) (tI σ 13) (tI σ 18) σe, e1, ?_, e3, ?_, ?_⟩
  · unfold K_X2_beginsCondition
    rw [nm_eq, h405, FUs, KL_X2_beginsCondition_7, P.px.2.2.1.1, ifF (by rw [bI_le (by omega) (by omega)]; omega), ifT (inb_nI' (by omega) (by decide)), ix_nI (by omega), ifT h91]
    unfold KJ_X2_beginsCondition_47_7
    rw [nm_eq, ifF (show ¬ (0 : Int32) + 1 = 0 from by decide), nm_eq, nI_addL, show (0 : Int32) + 1 = nI 1 from rfl]
    rcases e2 with ⟨q1, q2⟩ | q1
    · rw [q1, obS_inl, q2]
    · rw [q1, obS_inr]
  · obtain ⟨a1, a2, a3, a4, N, Q, ⟨a8, a9, a10⟩, a11, a12, a13⟩ := P
    refine ⟨a1.go (X := none_) Fz.rf (fun o z => absurd z (fun q => q)) rfl a1.2.2.1.2.1 a1.2.2.1.2.2 (a1.2.2.2.1.1.kp f' rfl rfl) (a1.2.2.2.1.2.1.kp f' rfl rfl) (by rw [(f' 0 rfl).1]; exact a1.2.2.2.1.2.2.1) a1.2.2.2.1.2.2.2 ?_ a1.2.2.2.2.2, a2.fz (X := none_) Fz.rf (fun o z => absurd z (fun q => q)) rfl (fun w _ => rfl) f' (by decide), ⟨a3.1, by rw [(f' 20 rfl).1]; exact a3.2.1, a3.2.2⟩, a4, N, Q, ⟨by rw [(f' 28 rfl).1]; exact a8, a9, a10⟩, by rw [(f' 34 rfl).1]; exact a11, a12, a13⟩
    obtain ⟨kd, s, ⟨b1, b2, b3, b4, b5, b6⟩, b7⟩ := a1.2.2.2.2.1
    have hkd : kd = 3 := by
      rw [h11, show (3 : Int32) = nI 3 from rfl, bI_eq (by decide) (by omega)] at b4; omega
    subst hkd
    refine ⟨3, s, ⟨b1, b2, b3, rfl, b5, b6⟩, Or.inr (Or.inr (Or.inr (Or.inl ⟨rfl, h91, ?_⟩)))⟩
    show sgOK 40
    exact Or.inl (by unfold isSg; decide)
  · exact Es.tw f' (by decide) (Tz.ft f' (by decide))
end TEST
