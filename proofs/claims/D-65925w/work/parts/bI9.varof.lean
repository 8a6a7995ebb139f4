/-! Layer B: the flat model: the variable of a reference, both sides -/
set_option maxRecDepth 100000
section VAROF
variable {C : PC} {D D' D2 : FQ} {M M' M1 M2 M3 : CM} {σ σ' σ1 σ2 s : TS} {mss fss ps : List Nat} {B V I Bm b c e f z w q Lp L n j p lr x o : Nat} {P T : Nat → Prop} {v v' x2 x3 x4 : Int32} {z7 : Nat → Nat} {S : List Nat}
theorem z_follow (hB1 : B ≤ 1280) (W : FW C B P mss fss D M σ) (FX : FlX z7 C P D mss M σ V I Bm) (LP : LpR C M σ Lp) (h0 : tI σ 0 = 0) (hn : n < I) (hl : LsP P M lr ps) (hne : ps ≠ []) (hq : PhR P (tQ σ) (cm C) M σ ps q) :
    (∃ M' σ' w, K_X0_follow ((pl D 99).getD n 0) lr M = some (.inr w, M') ∧ F_resolve (nI q) (nI n) σ = some ((), σ') ∧ FfG C B P mss fss M M' σ σ' w ∧ Ft [0, 1, 118, 119, 120] σ σ') ∨
    (∃ M' σ', K_X0_follow ((pl D 99).getD n 0) lr M = some (.inl (), M') ∧ F_resolve (nI q) (nI n) σ = some ((), σ') ∧ F2o M M' ∧ Ft [118, 119, 120] σ σ' ∧ ((∃ v, v < V ∧ mR M' 20 1 = (pl D 98).getD v 0 ∧ mR M' 21 1 = 0 ∧ tI σ' 119 = nI v) ∨ (∃ n', n' < I ∧ mR M' 20 1 = 0 ∧ mR M' 21 1 = (pl D 99).getD n' 0 ∧ tI σ' 118 = nI n' ∧ tI σ' 119 = -1))) := by
  have fu := FUb
  have ll := hl.1.2.2.1
  obtain ⟨M2, hM2⟩ : ∃ N, N = msR (msR M 20 1 0) 21 1 0 := ⟨_, rfl⟩
  have F2 : F2o M M2 := by rw [hM2]; exact (F2o.wr_ (Or.inl rfl)).tr (F2o.wr_ (Or.inr rfl))
  obtain ⟨s3, hs3⟩ : ∃ s, s = tsI (tsI (tsI σ 119 (-1)) 118 (-1)) 120 0 := ⟨_, rfl⟩
  have f3 : Ft [118, 119, 120] σ s3 := by rw [hs3]; exact (((Ft.rf _ _).p_tsI rfl).p_tsI rfl).p_tsI rfl
  obtain ⟨W2, v2⟩ := F2.fw W f3 (by decide)
  have FX2 := F2.fx W FX f3 (by decide)
  have LP2 := LP.mv v2 (F2.2.2.1 _ _) (fun k => ⟨F2.2.2.2.2.2 _ _, F2.2.2.2.2.2 _ _⟩) f3 (by decide)
  have kh : K_X0_follow ((pl D 99).getD n 0) lr M = obS (KL_X0_follow_15 FU lr ((pl D 99).getD n 0) (nI 0) M2) (fun r95 M92 => some (r95, M92)) fun _ M92 => some (.inl (), M92) := by
    unfold K_X0_follow
    rw [nm_eq, nm_eq, ← hM2]; rfl
  have th : F_resolve (nI q) (nI n) σ = obS (L_resolve_20 FU (nI n) (nI q) s3) (fun r85 s82 => some (r85, s82)) fun _ s82 => some ((), s82) := by
    unfold F_resolve
    rw [nm_eq, nm_eq, nm_eq, ← hs3]
  rw [kh, th]
  rcases follow_loop hB1 ps 0 q n FU FU M2 s3 (by omega) (by omega) W2 FX2 LP2 (by rw [(f3 0 rfl).1]; exact h0) hn (hl.wz v2 (fun _ z => z)) (by omega) (fun i _ => by rw [Nat.zero_add]) (PhR.wz v2 (fun _ z => z) ps q hq) with ⟨M', σ', w', y', a1, a2, a3, a4⟩ | ⟨M', σ', y', a1, a2, a3, a4, a5, a6⟩
  · left
    refine ⟨M', σ', w', by rw [a1, obS_inr], ?_, a3.tr (F2.sg W f3 (by decide)), (f3.mono (by decide)).tr a4⟩
    rw [a2]
    cases y' <;> rfl
  · right
    refine ⟨M', σ', by rw [a1, obS_inl], ?_, F2.tr a3, f3.tr a4, ?_⟩
    · rw [a2]
      cases y' <;> rfl
    · rcases a6 hne with u | ⟨n', u1, u2, u3, u4, u5⟩
      · exact Or.inl u
      · refine Or.inr ⟨n', u1, u2, u3, u4, ?_⟩
        rw [u5, hs3]; rfl
/-- a variable's number -/
theorem k_numberOf (W : FW C B P mss fss D M σ) (FX : FlX z7 C P D mss M σ V I Bm) {v : Nat} (hv : v < V) : K_X0_numberOf ((pl D 98).getD v 0) M = some (nI v, M) := by
  have fu := FUb
  have hm := W.rm
  obtain ⟨N, ⟨l1, l2, l3, l4⟩, -, ⟨d1, -⟩, -⟩ := FX
  have l98 := N.1.1
  have bd : ∀ k, k < V → (pl D 98).getD k 0 ≤ 1099511627775 := fun k hk => by
    have := (W.2.1.2.1 98 (by decide) k (by omega)).2.1.2; omega
  have loop : ∀ (d pos f : Nat), pos + d = v → d < f → KL_X0_numberOf_2 f ((pl D 98).getD v 0) (nI pos) M = some (.inr (nI v), M) := by
    intro d
    induction d with
    | zero =>
      intro pos f hp hf
      obtain ⟨f, rfl⟩ : ∃ g, f = g + 1 := ⟨f - 1, by omega⟩
      have get := ls_get (W.2.1.1 98 (by decide)).1 (show pos < (pl D 98).length by omega)
      have ep : pos = v := by omega
      rw [KL_X0_numberOf_2, d1, ifF (fun z => by have := (bI_le (by omega) (by omega)).mp z; omega), get, ob_some, ifT ⟨bd pos (by omega), bd v hv⟩, ifT (by rw [ep]), ep]
    | succ d ih =>
      intro pos f hp hf
      obtain ⟨f, rfl⟩ : ∃ g, f = g + 1 := ⟨f - 1, by omega⟩
      have get := ls_get (W.2.1.1 98 (by decide)).1 (show pos < (pl D 98).length by omega)
      rw [KL_X0_numberOf_2, d1, ifF (fun z => by have := (bI_le (by omega) (by omega)).mp z; omega), get, ob_some, ifT ⟨bd pos (by omega), bd v hv⟩, ifF (fun z => by
        have := (W.2.1.inj (l := 98) (l' := 98) (by decide) (by decide) (by omega) (by omega) z).2
        omega), nI_addL, nm_eq]
      exact ih (pos + 1) f (by omega) (by omega)
  unfold K_X0_numberOf
  rw [show (0 : Int32) = nI 0 from rfl, loop v 0 FU (by omega) (by omega), obS_inr]
theorem z_varOf (hB1 : B ≤ 1280) (W : FW C B P mss fss D M σ) (FX : FlX z7 C P D mss M σ V I Bm) (LP : LpR C M σ Lp) (h0 : tI σ 0 = 0) (hn : n < I) (hR : RfR P (tQ σ) (cm C) M σ o q) :
    (∃ M' σ' w, K_X0_varOf ((pl D 99).getD n 0) o M = some (.inr w, M') ∧ F_variableOf (nI q) (nI n) σ = some (-1, σ') ∧ FfG C B P mss fss M M' σ σ' w ∧ Ft [0, 1, 118, 119, 120] σ σ') ∨
    (∃ v M' σ', v < V ∧ K_X0_varOf ((pl D 99).getD n 0) o M = some (.inl (nI v), M') ∧ F_variableOf (nI q) (nI n) σ = some (nI v, σ') ∧ F2o M M' ∧ Ft [118, 119, 120] σ σ') := by
  obtain ⟨r1, r2, r3, ps, r4, r5, r6⟩ := hR
  unfold K_X0_varOf F_variableOf
  rw [ifT r2]
  rcases z_follow hB1 W FX LP h0 hn r5 r4 r6 with ⟨M', σ', w, a1, a2, a3, a4⟩ | ⟨M', σ', a1, a2, a3, a4, a5⟩
  · left
    have b0 := a3.2.1.2.2.1
    refine ⟨M', σ', w, by rw [a1, obS_inr], ?_, a3, a4⟩
    rw [a2, ob_some, t_isBad1 b0, ob_some, ifF (show ¬ (1 : Int32) = 0 by decide), t_isBad1 b0, ob_some, ifF (show ¬ (1 : Int32) = 0 by decide)]
  · have h0' : tI σ' 0 = 0 := by rw [(a4 0 rfl).1]; exact h0
    obtain ⟨W', v'⟩ := a3.fw W a4 (by decide)
    have FX' := a3.fx W FX a4 (by decide)
    rw [a1, obS_inl, a2, ob_some, t_isBad0 h0', ob_some, ifT (rfl : (0 : Int32) = 0)]
    rcases a5 with ⟨v, v1, v2, v3, v4⟩ | ⟨n', v1, v2, v3, v4, v5⟩
    · right
      have n0 := (W.2.1.2.1 98 (by decide) v (by have := FX.1.1.1; omega)).2.1.1
      have v96 := FX.2.1.1
      refine ⟨v, M', σ', v1, ?_, ?_, a3, a4⟩
      · rw [v2, ifF (show ¬ (pl D 98).getD v 0 = 0 by omega), k_numberOf W' FX' v1, ob_some]
      · rw [v4, ifT (show (0 : Int32) ≤ nI v from by rw [show (0 : Int32) = nI 0 from rfl, bI_le (by decide) (by omega)]; omega), t_isBad0 h0', ob_some, ifT (rfl : (0 : Int32) = 0), v4]
    · left
      obtain ⟨b1, b2, b3⟩ := W'.badG (r := 26) (by decide) h0'
      refine ⟨_, badT σ' 26, _, ?_, ?_, b3.tr (a3.sg W a4 (by decide)), (a4.mono (by decide)).tr ((badT_f (σ := σ') (r := 26)).mono (by decide))⟩
      · rw [v2, ifT (rfl : (0 : Nat) = 0), b1, ob_some, ifT (wM_k M' 26 0)]
      · have b0 : tI (badT σ' 26) 0 ≠ 0 := badT_ne (by decide)
        rw [v5, ifF (by decide), b2, ob_some, t_isBad1 b0, ob_some, ifF (show ¬ (1 : Int32) = 0 by decide)]
end VAROF
