/-! Layer B: calls that tell: a letter, a name -/
set_option maxRecDepth 100000
section TELL
variable {C : PC} {P : Nat → Prop} {mss fss S : List Nat} {D : FQ} {M M' : CM} {σ σ' : TS} {B V I Bm n : Nat} {z7 : Nat → Nat} {x : Int32}
theorem z_octet (h : OuR M σ) (x : Int32) : ∃ r, K_X0_octet x M = some (r, M) ∧ F_octet x σ = some (r, σ) := by
  obtain ⟨n, n1, n2, n3, n4⟩ := h
  unfold K_X0_octet F_octet
  rw [n2, n3]
  by_cases q1 : x = -1
  · rw [ifT q1, ifT q1]; exact ⟨_, rfl, rfl⟩
  rw [ifF q1, ifF q1]
  by_cases q2 : x < 0
  · rw [ifT q2, ifT q2]; exact ⟨_, rfl, rfl⟩
  rw [ifF q2, ifF q2]
  by_cases q3 : x < nI n
  · obtain ⟨i, rfl, i2⟩ := bI_of (Int32.not_lt.mp q2)
    have hi : i < n := (bI_lt i2 (by omega)).mp q3
    obtain ⟨⟨a, -⟩, b⟩ := n4 i hi
    rw [ifT q3, ifT q3, ifT (inb_nI' (by omega) (by decide)), ifT (inb_nI' (by omega) (by decide)), ix_nI i2, a, b]
    exact ⟨_, rfl, rfl⟩
  · rw [ifF q3, ifF q3]; exact ⟨_, rfl, rfl⟩
/-- the rows of a flat model in a later state of the twin -/
theorem FlY.tw (X : FlY z7 C P D mss M σ V I Bm) (W : FW C B P mss fss D M σ) (f : Ft S σ σ') (h1 : flN.all (fun k => !S.contains k) = true) (h2 : itK.all (fun k => !S.contains k) = true) : FlY z7 C P D mss M σ' V I Bm := X.kpw W (T := fun _ => False) Fq.rf (fun _ z => z.elim) (fun _ _ => ⟨fun _ _ _ => rfl, fun _ _ _ => rfl⟩) (W.wzT f h2).2 (Dx.rf D M) f h1 ⟨rfl, rfl⟩
/-- printing begins: nothing is told -/
theorem OuE.st (M : CM) (σ : TS) : OuE M σ (msI M 3 1 0) (tsI σ 9 0) := ⟨⟨0, by decide, by rw [mI_msI, ifT ⟨rfl, rfl⟩]; rfl, rfl, fun i hi => absurd hi (Nat.not_lt_zero _)⟩, ⟨fun g o z => by rw [mI_msI, ifF z], fun _ _ => rfl, fun _ _ _ => rfl, fun _ _ => rfl, fun _ _ => rfl, fun _ => ⟨rfl, rfl⟩, ⟨rfl, rfl⟩, Fz.rf.msI (fun _ => Or.inl rfl)⟩, (Ft.rf _ σ).p_tsI rfl⟩
/-- what a call that tells leaves -/
def TeO (M : CM) (σ : TS) (kr : Option (Int32 × CM)) (tr_ : Option (Int32 × TS)) : Prop := ∃ r M' σ', kr = some (r, M') ∧ tr_ = some (r, σ') ∧ OuR M' σ' ∧ OuK M M' ∧ Ft [6, 9, 170, 171, 176] σ σ' ∧ tI σ' 171 = tI σ 171
theorem TeO.st (o : OuR M σ) (r : Int32) : TeO M σ (some (r, M)) (some (r, σ)) := ⟨r, M, σ, rfl, rfl, o, OuK.rf, Ft.rf _ _, rfl⟩
/-- the call name, both sides -/
theorem z_fname (W : FW C B P mss fss D M σ) (X : FlY z7 C P D mss M σ V I Bm) (hf : ¬ mI M 30 1 = 0 ∧ ¬ tI σ 108 = 0) (o : OuR M σ) (x : Int32) : TeO M σ (K_X0_name x M) (F_name x σ) := by
  have h15 := X.2.2.2.1.1
  have h107 := X.2.2.1.1
  have V96 := X.2.1.1
  unfold K_X0_name F_name F_isVariable
  rw [ifF hf.1, ifF hf.2, h15, h107]
  by_cases q : x < 0
  · rw [ifT q, ifT q, ob_some, ifT (rfl : (0 : Int32) = 0)]
    exact TeO.st o _
  rw [ifF q, ifF q]
  obtain ⟨v, rfl, v2⟩ := bI_of (Int32.not_lt.mp q)
  by_cases q2 : nI v < nI V
  · have hv : v < V := (bI_lt v2 (by omega)).mp q2
    rw [ifT q2, ifF (Int32.not_le.mpr q2), ob_some, ifF (by decide : ¬ (1 : Int32) = 0), nm_eq, nm_eq, nm_eq]
    obtain ⟨s0, hs0⟩ : ∃ s0, s0 = tsI σ 176 0 := ⟨_, rfl⟩
    have f0 : Ft [176] σ s0 := by rw [hs0]; exact (Ft.rf _ σ).p_tsI rfl
    have W0 := (W.wzT f0 (by decide)).1
    have X0 := X.tw W f0 (by decide) (by decide)
    have o0 : OuE M s0 (msI M 3 1 0) (tsI (tsI σ 9 0) 176 0) := by
      obtain ⟨a, b, c⟩ := OuE.st M s0
      refine ⟨?_, b, ?_⟩
      · obtain ⟨n, n1, n2, n3, n4⟩ := a
        exact ⟨0, by decide, by rw [mI_msI, ifT ⟨rfl, rfl⟩]; rfl, rfl, fun i hi => absurd hi (Nat.not_lt_zero _)⟩
      · intro k hk
        obtain ⟨c1, c2, c3, c4⟩ := c k hk
        refine ⟨?_, by rw [hs0]; rfl, fun i => by rw [hs0]; rfl, fun i => by rw [hs0]; rfl⟩
        rw [← c1, hs0]
        by_cases z : k = 176
        · subst z; rfl
        · by_cases z2 : k = 9
          · subst z2; rfl
          · show (if k = 176 then _ else if k = 9 then _ else _) = (if k = 9 then _ else if k = 176 then _ else _)
            rw [ifF z, ifF z2, ifF z2, ifF z]
    obtain ⟨M', σ', e1, e2, r, k, t⟩ := z_pname W0 X0 hv o0
    obtain ⟨n, n1, n2, n3, n4⟩ := id r
    rw [e1, ob_some, e2, ob_some, n2, n3]
    exact ⟨_, M', σ', rfl, rfl, r, o0.2.1.tr k, ((f0.mono (by decide)).tr (o0.2.2.mono (by decide))).tr (t.1.mono (by decide)), t.2.1.1⟩
  · rw [ifF q2, ifT (Int32.not_lt.mp q2), ob_some, ifT (rfl : (0 : Int32) = 0)]
    exact TeO.st o _
end TELL
