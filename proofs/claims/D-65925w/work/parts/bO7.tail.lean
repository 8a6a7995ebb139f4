/-! Layer B: the flat model: after a fault the twin goes through -/
set_option maxRecDepth 100000
section TAIL
variable {C : PC} {M M' : CM} {σ s s' : TS} {mss fss : List Nat} {B w E m j f : Nat} {P : Nat → Prop} {y : Int32}
/-- equations are put aside -/
theorem t_631 : ∀ (m j f : Nat) (s : TS), j + m = E → E ≤ 120 → tI s 144 = nI E → m < f → ∃ s', L_makeFlat_631 f (nI j) s = some ((), s') ∧ Ft [174, 175] s s' ∧ (∀ k, k < j → tA s' 174 k = tA s 174 k ∧ tA s' 175 k = tA s 175 k) ∧ ∀ k, j ≤ k → k < E → tA s' 174 k = tA s 141 k ∧ tA s' 175 k = tA s 142 k := by
  intro m
  induction m with
  | zero =>
    intro j f s hj hE h hf
    obtain ⟨f, rfl⟩ : ∃ g, f = g + 1 := ⟨f - 1, by omega⟩
    refine ⟨s, ?_, Ft.rf _ s, fun _ _ => ⟨rfl, rfl⟩, fun k h1 h2 => by omega⟩
    unfold L_makeFlat_631
    rw [h, ifT ((bI_le (by omega) (by omega)).mpr (by omega))]
  | succ m ih =>
    intro j f s hj hE h hf
    obtain ⟨f, rfl⟩ : ∃ g, f = g + 1 := ⟨f - 1, by omega⟩
    have nx : nI j + 1 = nI (j + 1) := nI_addL j 1
    have i4 : inb (nI j) 400 := inb_nI' (by omega) (by decide)
    have i1 : inb (nI j) 120 := inb_nI' (by omega) (by decide)
    have xj : ix (nI j) = j := ix_nI (by omega)
    obtain ⟨s1, hs1⟩ : ∃ q, q = tsA (tsA s 174 j (tA s 141 j)) 175 j (tA s 142 j) := ⟨_, rfl⟩
    have f1 : Ft [174, 175] s s1 := by rw [hs1]; exact ((Ft.rf _ s).p_tsA rfl).p_tsA rfl
    have v4 : ∀ k, tA s1 174 k = if k = j then tA s 141 j else tA s 174 k := fun k => by
      rw [hs1, tA_tsA, ifF (by omega), tA_tsA]
      by_cases q : k = j
      · rw [ifT ⟨rfl, q⟩, ifT q]
      · rw [ifF (fun z => q z.2), ifF q]
    have v5 : ∀ k, tA s1 175 k = if k = j then tA s 142 j else tA s 175 k := fun k => by
      rw [hs1, tA_tsA]
      by_cases q : k = j
      · rw [ifT ⟨rfl, q⟩, ifT q]
      · rw [ifF (fun z => q z.2), ifF q, tA_tsA, ifF (by omega)]
    obtain ⟨s', e1, e2, e3, e4⟩ := ih (j + 1) f s1 (by omega) hE (by rw [(f1 144 rfl).1]; exact h) (by omega)
    refine ⟨s', ?_, f1.tr e2, fun k hk => ?_, fun k h1 h2 => ?_⟩
    · unfold L_makeFlat_631
      rw [h, ifF (fun z => by have := (bI_le (by omega) (by omega)).mp z; omega), ifT i4, ifT i1, nm_eq, ifT i4, ifT i1, nm_eq, nm_eq, nx, xj, show tA (tsA s 174 j (tA s 141 j)) 142 j = tA s 142 j from by rw [tA_tsA, ifF (by omega)], ← hs1, e1]
    · obtain ⟨q1, q2⟩ := e3 k (by omega)
      rw [q1, q2, v4, v5, ifF (by omega), ifF (by omega)]; exact ⟨rfl, rfl⟩
    · by_cases z : k = j
      · obtain ⟨q1, q2⟩ := e3 k (by omega)
        rw [q1, q2, v4, v5, ifT z, ifT z, z]; exact ⟨rfl, rfl⟩
      · obtain ⟨q1, q2⟩ := e4 k (by omega) h2
        rw [q1, q2, (f1 141 rfl).2.2.1, (f1 142 rfl).2.2.1]; exact ⟨rfl, rfl⟩
theorem fu1 : ∃ g, FU = g + 1 := by
  have : 0 < FU := by unfold FU; decide
  exact ⟨FU - 1, by omega⟩
/-- a failed state, with what is asked of 144 -/
def FbE (C : PC) (B : Nat) (P : Nat → Prop) (mss fss : List Nat) (M M' : CM) (σ s : TS) (w : Nat) : Prop := FfB C B P mss fss M M' σ s w ∧ ∃ E', E' ≤ 120 ∧ tI s 144 = nI E'
theorem FfB.i (h : FfB C B P mss fss M M' σ s w) {k : Nat} (hk : k = 128 ∨ k = 129 ∨ k = 130 ∨ k = 138 ∨ k = 144) : FfB C B P mss fss M M' σ (tsI s k y) w := by
  rcases hk with rfl | rfl | rfl | rfl | rfl
  · exact h.tws (S := [128]) ((Ft.rf _ s).p_tsI rfl) (by decide) (by decide) ⟨rfl, rfl⟩ ⟨rfl, rfl, rfl⟩
  · exact h.tws (S := [129]) ((Ft.rf _ s).p_tsI rfl) (by decide) (by decide) ⟨rfl, rfl⟩ ⟨rfl, rfl, rfl⟩
  · exact h.tws (S := [130]) ((Ft.rf _ s).p_tsI rfl) (by decide) (by decide) ⟨rfl, rfl⟩ ⟨rfl, rfl, rfl⟩
  · exact h.tws (S := [138]) ((Ft.rf _ s).p_tsI rfl) (by decide) (by decide) ⟨rfl, rfl⟩ ⟨rfl, rfl, rfl⟩
  · exact h.tws (S := [144]) ((Ft.rf _ s).p_tsI rfl) (by decide) (by decide) ⟨rfl, rfl⟩ ⟨rfl, rfl, rfl⟩
theorem t_611b (h : FbE C B P mss fss M M' σ s w) : ∃ s', J_makeFlat_611 s = some ((), s') ∧ FfB C B P mss fss M M' σ s' w := by
  obtain ⟨h, E, hE, h4⟩ := h
  have hFU : 200 < FU := by unfold FU; decide
  obtain ⟨s7, hs7⟩ : ∃ q, q = tsI (tsI (tsI s 130 0) 128 (tI (tsI s 130 0) 126)) 129 0 := ⟨_, rfl⟩
  have g : FfB C B P mss fss M M' σ s7 w := by rw [hs7]; exact ((h.i (by omega)).i (by omega)).i (by omega)
  obtain ⟨s', e1, e2, -⟩ := t_631 E 0 FU s7 (by omega) hE (by rw [hs7]; exact h4) (by omega)
  refine ⟨s', ?_, g.tws e2 (by decide) (by decide) ⟨rfl, rfl⟩ ⟨rfl, rfl, rfl⟩⟩
  unfold J_makeFlat_611
  rw [nm_eq, nm_eq, nm_eq, ← hs7, show L_makeFlat_631 FU 0 s7 = some ((), s') from e1, ob_some]
theorem t_578b (h : FbE C B P mss fss M M' σ s w) : ∃ s', J_makeFlat_578 s = some ((), s') ∧ FfB C B P mss fss M M' σ s' w := by
  obtain ⟨g, hg⟩ := fu1
  have h2 : FbE C B P mss fss M M' σ (tsI s 138 0) w := ⟨h.1.i (by omega), h.2⟩
  obtain ⟨s', e1, e2⟩ := t_611b h2
  refine ⟨s', ?_, e2⟩
  unfold J_makeFlat_578
  rw [nm_eq, hg, t_585b h2.1.ne, ob_some, e1]
theorem t_517b (h : FbE C B P mss fss M M' σ s w) : ∃ s', J_makeFlat_517 s = some ((), s') ∧ FfB C B P mss fss M M' σ s' w := by
  obtain ⟨g, hg⟩ := fu1
  have h2 : FbE C B P mss fss M M' σ (tsI s 138 1) w := ⟨h.1.i (by omega), h.2⟩
  obtain ⟨s', e1, e2⟩ := t_578b h2
  refine ⟨s', ?_, e2⟩
  unfold J_makeFlat_517
  rw [nm_eq, hg, t_524b h2.1.ne, ob_some, e1]
theorem t_506b (h : FbE C B P mss fss M M' σ s w) : ∃ s', J_makeFlat_506 s = some ((), s') ∧ FfB C B P mss fss M M' σ s' w := by
  obtain ⟨s', e1, e2⟩ := t_517b h
  refine ⟨s', ?_, e2⟩
  unfold J_makeFlat_506
  rw [t_isBad1 h.1.ne, ob_some, ifF (show ¬ (1 : Int32) = 0 by decide), e1]
theorem t_487b (h : FfB C B P mss fss M M' σ s w) : ∃ s', J_makeFlat_487 s = some ((), s') ∧ FfB C B P mss fss M M' σ s' w := by
  obtain ⟨E, hE, h3⟩ := h.2.2.1
  have h2 : FbE C B P mss fss M M' σ (tsI s 144 (tI s 143)) w := ⟨h.i (by omega), E, hE, h3⟩
  obtain ⟨s', e1, e2⟩ := t_506b h2
  refine ⟨s', ?_, e2⟩
  unfold J_makeFlat_487
  rw [nm_eq, t_isBad1 h2.1.ne, ob_some, ifF (show ¬ (1 : Int32) = 0 by decide), e1]
theorem t_476b (h : FfB C B P mss fss M M' σ s w) : ∃ s', J_makeFlat_476 s = some ((), s') ∧ FfB C B P mss fss M M' σ s' w := by
  obtain ⟨s', e1, e2⟩ := t_487b h
  refine ⟨s', ?_, e2⟩
  unfold J_makeFlat_476
  rw [t_isBad1 h.ne, ob_some, ifF (show ¬ (1 : Int32) = 0 by decide), e1]
theorem t_464b (h : FfB C B P mss fss M M' σ s w) : ∃ s', J_makeFlat_464 s = some ((), s') ∧ FfB C B P mss fss M M' σ s' w := by
  obtain ⟨s', e1, e2⟩ := t_476b h
  refine ⟨s', ?_, e2⟩
  unfold J_makeFlat_464
  rw [t_isBad1 h.ne, ob_some, ifF (show ¬ (1 : Int32) = 0 by decide), e1]
theorem t_387b (h : FfB C B P mss fss M M' σ s w) : ∃ s', J_makeFlat_387 s = some ((), s') ∧ FfB C B P mss fss M M' σ s' w := by
  obtain ⟨g, hg⟩ := fu1
  obtain ⟨s', e1, e2⟩ := t_464b h
  refine ⟨s', ?_, e2⟩
  unfold J_makeFlat_387
  rw [hg, t_389b h.ne, ob_some, e1]
theorem t_344b (h : FfB C B P mss fss M M' σ s w) : ∃ s', J_makeFlat_344 s = some ((), s') ∧ FfB C B P mss fss M M' σ s' w := by
  obtain ⟨g, hg⟩ := fu1
  have h2 : FfB C B P mss fss M M' σ (tsI s 138 0) w := h.i (by omega)
  obtain ⟨s', e1, e2⟩ := t_387b h2
  refine ⟨s', ?_, e2⟩
  unfold J_makeFlat_344
  rw [nm_eq, hg, t_351b h2.ne, ob_some, e1]
end TAIL
