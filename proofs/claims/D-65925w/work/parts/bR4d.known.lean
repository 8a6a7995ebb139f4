/-! Layer B: once flat, all parameters are known (the twin alone) -/
set_option maxRecDepth 100000
/-- every parameter below V is known -/
def Kn (V : Nat) (σ : TS) : Prop := ∀ v, v < V → tA σ 94 v = 1 → tA σ 160 v = 2
theorem Kn.ft {V : Nat} {σ σ' : TS} {S : List Nat} (h : Kn V σ) (f : Ft S σ σ') (h1 : S.contains 94 = false) (h2 : S.contains 160 = false) : Kn V σ' := fun v hv z => by
  rw [(f 160 h2).2.2.1]
  rw [(f 94 h1).2.2.1] at z
  exact h v hv z
section KNO
variable {σ σ' s : TS} {V i : Nat}
theorem kn_B (cf : Int32 → Int32 → TS → Option (Int32 × TS)) (x1 : Int32) (σ σ' : TS) (r : Unit) (h : B_parameter cf x1 σ = some (r, σ')) : ¬ tI σ' 0 = 0 ∨ tA σ' 160 (ix x1) = 2 := by
  have w2 : ∀ (s : TS) (a : Int32), tA (tsI (tsA s 160 (ix x1) 2) 161 a) 160 (ix x1) = 2 := fun s a => by
    show (if 160 = 160 ∧ ix x1 = ix x1 then (2 : Int32) else _) = 2
    rw [if_pos ⟨rfl, rfl⟩]
  have bd : ∀ (c : Int32) (s s' : TS) (u : Unit), ¬ c = 0 → F_bad c 0 s = some (u, s') → ¬ tI s' 0 = 0 := fun c s s' u hc e z => by
    unfold F_bad at e
    split at e
    · cases e
      have y : tI (tsI (tsI s 0 c) 1 0) 0 = c := rfl
      exact hc (y.symm.trans z)
    · rename_i q
      cases e
      exact q z
  unfold B_parameter at h
  by_cases hi : inb x1 96
  · simp only [if_pos hi, nm_eq] at h
    by_cases q2 : tA σ 160 (ix x1) = 2
    · rw [if_pos q2] at h
      cases h
      exact Or.inr q2
    · rw [if_neg q2] at h
      obtain ⟨r3, s2, e1, e2⟩ := obE h
      by_cases q3 : r3 = 0
      · rw [if_pos q3] at e2
        by_cases q4 : tA s2 160 (ix x1) = 1
        · rw [if_pos q4] at e2
          obtain ⟨r4, s4, e3, e4⟩ := obE e2
          cases e4
          exact Or.inl (bd 31 _ _ _ (by decide) e3)
        · rw [if_neg q4] at e2
          by_cases q5 : tI s2 161 = 8
          · rw [if_pos q5] at e2
            obtain ⟨r4, s4, e3, e4⟩ := obE e2
            cases e4
            exact Or.inl (bd 24 _ _ _ (by decide) e3)
          · rw [if_neg q5] at e2
            split at e2
            · cases e2
              exact Or.inr (w2 _ _)
            · obtain ⟨r4, s4, e3, e4⟩ := obE e2
              cases e4
              exact Or.inr (w2 _ _)
      · rw [if_neg q3] at e2
        cases e2
        unfold F_isBad at e1
        split at e1
        · cases e1; exact absurd rfl q3
        · rename_i q2; cases e1; exact Or.inl q2
  · rw [if_neg hi] at h
    cases h
theorem kn_par (x1 : Int32) (σ σ' : TS) (r : Unit) (h : F_parameter x1 σ = some (r, σ')) : ¬ tI σ' 0 = 0 ∨ tA σ' 160 (ix x1) = 2 := by
  have e : F_parameter x1 σ = (G_chainValue 1900).2.2.2.1 x1 σ := rfl
  rw [e, show (1900 : Nat) = 1899 + 1 from rfl, G_chainValue] at h
  exact kn_B _ _ _ _ _ h
theorem kn_351 (hV : V ≤ 96) : ∀ (n i : Nat) (σ σ' : TS) (r : Unit), i ≤ V → tI σ 107 = nI V → L_makeFlat_351 n (nI i) σ = some (r, σ') → tI σ' 0 = 0 → ∀ v, i ≤ v → v < V → tA σ' 94 v = 1 → tA σ' 160 v = 2 := by
  intro n
  induction n with
  | zero => intro i σ σ' r _ _ h; cases h
  | succ n ih =>
    intro i σ σ' r hi h7 h h0 v hv1 hv2 hv3
    rw [L_makeFlat_351] at h
    have iV : i < V := by omega
    rw [ifF (show ¬ tI σ 107 ≤ nI i by rw [h7, bI_le (by omega) (by omega)]; omega)] at h
    obtain ⟨r1, s1, e1, e2⟩ := obE h
    have f1 := fS_F_isBad _ _ _ e1
    have n7 : tI s1 107 = nI V := (f1 107 rfl).1.trans h7
    have ei : (nI i + 1 : Int32) = nI (i + 1) := by rw [show (1 : Int32) = nI 1 from rfl, ← bI_add]
    split at e2
    · rename_i q
      split at e2
      · split at e2
        · rename_i q1 q2
          obtain ⟨r2, s2, e3, e4⟩ := obE e2
          rw [nm_eq, ei] at e4
          have f2 := fS_F_parameter _ _ _ _ e3
          have n72 : tI s2 107 = nI V := (f2 107 rfl).1.trans n7
          by_cases hvi : v = i
          · subst hvi
            have f3 := fS_L_makeFlat_351 _ _ _ _ _ e4
            have m3 := mS_L_makeFlat_351 _ _ _ _ _ e4
            have b3 := sB_L_makeFlat_351 _ _ _ _ _ e4
            rcases kn_par _ _ _ _ e3 with z | z
            · exact absurd h0 (b3 z)
            · rw [ix_nI (by omega)] at z
              exact m3 v z
          · exact ih (i + 1) s2 σ' r (by omega) n72 e4 h0 v (by omega) hv2 hv3
        · rename_i q1 q2
          rw [nm_eq, ei] at e2
          by_cases hvi : v = i
          · subst hvi
            have f3 := fS_L_makeFlat_351 _ _ _ _ _ e2
            rw [ix_nI (by omega)] at q2
            rw [(f3 94 rfl).2.2.1] at hv3
            exact absurd hv3 q2
          · exact ih (i + 1) s1 σ' r (by omega) n7 e2 h0 v (by omega) hv2 hv3
      · cases e2
    · rename_i q
      cases e2
      unfold F_isBad at e1
      split at e1
      · cases e1; exact absurd rfl q
      · rename_i q2; cases e1; exact absurd h0 q2
theorem kn_344 (hV : V ≤ 96) (h : J_makeFlat_344 σ = some ((), σ')) (h7 : tI σ' 107 = nI V) (h0 : tI σ' 0 = 0) : Kn V σ' := by
  unfold J_makeFlat_344 at h
  rw [nm_eq] at h
  obtain ⟨r1, s1, e1, e2⟩ := obE h
  have f1 := fS_L_makeFlat_351 _ _ _ _ _ e1
  have f2 := fS_J_makeFlat_387 _ _ _ e2
  have m2 := mS_J_makeFlat_387 _ _ _ e2
  have b2 := sB_J_makeFlat_387 _ _ _ e2
  have z1 : tI s1 0 = 0 := Classical.byContradiction fun z => b2 z h0
  have a7 : tI s1 107 = nI V := ((f2 107 rfl).1.symm).trans h7
  have a72 : tI (tsI σ 138 0) 107 = nI V := ((f1 107 rfl).1.symm).trans a7
  intro v hv z
  refine m2 v (kn_351 hV _ 0 _ _ _ (by omega) a72 e1 z1 v (by omega) hv ?_)
  rw [← (f2 94 rfl).2.2.1]; exact z
theorem kn_202 (hV : V ≤ 96) (h : J_makeFlat_202 σ = some ((), σ')) (h7 : tI σ' 107 = nI V) (h0 : tI σ' 0 = 0) : Kn V σ' := by
  unfold J_makeFlat_202 at h
  obtain ⟨r1, s1, e1, e2⟩ := obE h
  obtain ⟨r2, s2, e3, e4⟩ := obE e2
  rw [nm_eq, nm_eq] at e4
  obtain ⟨r3, s3, e5, e6⟩ := obE e4
  exact kn_344 hV e6 h7 h0
theorem kn_make {k : Int32} (hV : V ≤ 96) (h : F_makeFlat k σ = some ((), σ')) (h7 : tI σ' 107 = nI V) (h0 : tI σ' 0 = 0) : Kn V σ' := by
  unfold F_makeFlat at h
  simp only [nm_eq] at h
  rw [if_pos (by decide), if_pos (by decide), if_pos (by decide), if_pos (by decide), if_pos (by decide), if_pos (by decide), if_pos (by decide)] at h
  obtain ⟨r1, s1, e1, e2⟩ := obE h
  obtain ⟨r2, s2, e3, e4⟩ := obE e2
  exact kn_202 hV e4 h7 h0
/-- behind flat: what is flat has its parameters known -/
theorem kn_flat {r : Int32} (hV : V ≤ 96) (h : F_flat σ = some (r, σ')) (h8 : ¬ tI σ' 108 = 0) (h7 : tI σ' 107 = nI V) : Kn V σ' := by
  unfold F_flat at h
  obtain ⟨r1, s1, e1, e2⟩ := obE h
  simp only [nm_eq] at e2
  obtain ⟨r2, s2, e3, e4⟩ := obE e2
  have f3 := fS_F_theClass _ _ _ e3
  have a8 : tI s2 108 = 0 := (f3 108 rfl).1
  have fb : ∀ (s s' : TS) (q : Int32), tI s 108 = 0 → F_faulted s = some (q, s') → tI s' 108 = 0 := fun s s' q z e => ((fS_F_faulted _ _ _ e) 108 rfl).1.trans z
  split at e4
  · obtain ⟨r3, s3, e5, e6⟩ := obE e4
    have f5 := fS_F_makeFlat _ _ _ _ e5
    obtain ⟨r4, s4, e7, e8⟩ := obE e6
    have f7 := fS_F_isBad _ _ _ e7
    split at e8
    · rename_i q
      cases e8
      have z3 : tI s3 0 = 0 ∧ s4 = s3 := by
        unfold F_isBad at e7
        split at e7
        · rename_i q2; cases e7; exact ⟨q2, rfl⟩
        · cases e7; exact absurd q (by decide)
      rw [z3.2] at h7 ⊢
      have kk := kn_make hV e5 (show tI s3 107 = nI V from h7) z3.1
      exact kk
    · obtain ⟨r5, s5, e9, e10⟩ := obE e8
      cases e10
      exact absurd (fb _ _ _ ((f7 108 rfl).1.trans ((f5 108 rfl).1.trans a8)) e9) h8
  · obtain ⟨r3, s3, e5, e6⟩ := obE e4
    have f5 := fS_F_bad _ _ _ _ _ e5
    obtain ⟨r4, s4, e7, e8⟩ := obE e6
    have f7 := fS_F_isBad _ _ _ e7
    split at e8
    · rename_i q
      have z3 : ¬ tI s3 0 = 0 := by
        unfold F_bad at e5
        split at e5
        · simp only [nm_eq] at e5
          cases e5
          show ¬ (20 : Int32) = 0
          decide
        · rename_i q2; cases e5; exact q2
      unfold F_isBad at e7
      split at e7
      · rename_i q2; exact absurd q2 z3
      · cases e7; exact absurd q (by decide)
    · obtain ⟨r5, s5, e9, e10⟩ := obE e8
      cases e10
      exact absurd (fb _ _ _ ((f7 108 rfl).1.trans ((f5 108 rfl).1.trans a8)) e9) h8
end KNO
