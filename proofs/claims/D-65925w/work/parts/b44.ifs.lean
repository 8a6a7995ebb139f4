/-! Layer B: deeper and on; expression -/
set_option maxRecDepth 100000
section IFS
variable {C : PC} {M M' Mb : CM} {σ σ' σb : TS} {i ib dep depb c s n so : Nat}
theorem msI_comm (M : CM) (u v : Int32) : msI (msI M 406 90 u) 405 90 v = msI (msI M 405 90 v) 406 90 u := by
  unfold msI
  refine Prod.ext ?_ rfl
  funext g o
  show (if g = 405 ∧ o = 90 then _ else if g = 406 ∧ o = 90 then _ else _) = (if g = 406 ∧ o = 90 then _ else if g = 405 ∧ o = 90 then _ else _)
  by_cases q1 : g = 405 ∧ o = 90
  · rw [if_pos q1, if_neg (fun z => by omega), if_pos q1]
  · rw [if_neg q1]
    by_cases q2 : g = 406 ∧ o = 90
    · rw [if_pos q2, if_pos q2]
    · rw [if_neg q2, if_neg q2, if_neg q1]
theorem Pe.at12 (P : Pe C M σ i dep c s n) : tI σ 12 = mA M 94 i := by
  obtain ⟨kd, s, ⟨b1, b2, b3, _⟩, _⟩ := P.1.2.2.2.2.1
  rw [b3, b1]
theorem z_deepNext (P : Pe C M σ i dep c s n) (h1 : 1 ≤ c) (h2 : 8 ≤ s) (hi : i < ct C) : (∃ M' s1 σ', K_X2_deeper (mA M 94 i) (msI M 405 90 (nI (i + 1))) = some (.inl (), M') ∧ F_deeper σ = some ((), s1) ∧ F_next s1 = some ((), σ') ∧ Pe C M' σ' (i + 1) (dep + 1) (c + 16) (s + 2048) (n + 4) ∧ Es M σ M' σ' ∧ dep < 16 ∧ mn M' = mn M) ∨ ∃ w M' σ', K_X2_deeper (mA M 94 i) (msI M 405 90 (nI (i + 1))) = some (.inr w, M') ∧ F_deeper σ = some ((), σ') ∧ FB C M σ M' w σ' := by
  have h12 := P.at12
  rcases z_deeper P h1 h2 (x := mA M 94 i) h12 with ⟨d1, d2, d3, d4, d5⟩ | ⟨d1, w, M', σ', d2, d3, d4⟩
  · obtain ⟨s1, t1, b1, b2⟩ := z_step d4 hi
    have hk : K_X2_deeper (mA M 94 i) (msI M 405 90 (nI (i + 1))) = some (.inl (), msI (msI M 405 90 (nI (i + 1))) 406 90 (nI (dep + 1))) := by
      unfold K_X2_deeper
      have e0 : mI (msI M 405 90 (nI (i + 1))) 406 90 = nI dep := by rw [mI_msI, ifF (by omega)]; exact P.2.2.1.1
      rw [nm_eq, e0, nI_addL, show mI (msI (msI M 405 90 (nI (i + 1))) 406 90 (nI (dep + 1))) 406 90 = nI (dep + 1) from by rw [mI_msI, ifT ⟨rfl, rfl⟩], ifT ((nI_leL (by omega) (by decide)).mpr (by show dep + 1 ≤ 16; omega))]
    rw [msI_comm] at b1 b2
    exact Or.inl ⟨_, _, s1, hk, d3, t1, b1, d5.tr b2, d1, rfl⟩
  · subst d1
    right
    have cap := P.cap (k := 8) (by omega)
    have hk : K_X2_deeper (mA M 94 i) (msI M 405 90 (nI (i + 1))) = some (.inr (mn M), wM (msI (msI M 405 90 (nI (i + 1))) 406 90 (nI (16 + 1))) 7 (mA M 94 i)) := by
      unfold K_X2_deeper
      have e0 : mI (msI M 405 90 (nI (i + 1))) 406 90 = nI 16 := by rw [mI_msI, ifF (by omega)]; exact P.2.2.1.1
      rw [nm_eq, e0, nI_addL, show mI (msI (msI M 405 90 (nI (i + 1))) 406 90 (nI (16 + 1))) 406 90 = nI (16 + 1) from by rw [mI_msI, ifT ⟨rfl, rfl⟩], ifF (by decide), k_wrong (M := msI (msI M 405 90 (nI (i + 1))) 406 90 (nI (16 + 1))) cap (by have := P.n167; show mn M ≠ 0; omega), ob_some, ifT (wM_k _ _ _)]
      rfl
    have hd : F_deeper σ = some ((), tsI (tsI (tsI σ 0 7) 1 (mA M 94 i)) 20 (nI (16 + 1))) := by
      unfold F_deeper
      rw [P.2.2.1.2.1, ifT (show nI 16 = (16 : Int32) from rfl), h12, t_bad P.g0, ob_some, nm_eq, show tI (tsI (tsI σ 0 7) 1 (mA M 94 i)) 20 = nI 16 from P.2.2.1.2.1, nI_addL]
    have fb := P.fb h1 h2 (r := 7) (q := mA M 94 i) (by decide)
    have F : Fz (fun o => o = 90) M (msI (msI M 405 90 (nI (i + 1))) 406 90 (nI (16 + 1))) := ((Fz.rf (X := fun o => o = 90)).msI (fun _ => rfl)).msI (fun _ => rfl)
    have Fw : Fz none_ (msI (msI M 405 90 (nI (i + 1))) 406 90 (nI (16 + 1))) (wM (msI (msI M 405 90 (nI (i + 1))) 406 90 (nI (16 + 1))) 7 (mA M 94 i)) := wM_f _ _ _
    refine ⟨mn M, _, _, hk, hd, flt_w (M := msI (msI M 405 90 (nI (i + 1))) 406 90 (nI (16 + 1))) (σ := σ) (by decide), ⟨F.tr2 Fw (fun _ _ z => absurd z (fun q => q)), fun g => ?_, fun g g1 g2 => ?_, ?_, ?_⟩, fb.2.2.1, ?_⟩
    · rw [(Fw.so (by have := P.n167; show 90 < mn M; omega) (fun q => q)).r]; rfl
    · rw [(Fw.so (by have := P.n167; show 90 < mn M; omega) (fun q => q)).i, mI_msI, ifF (fun z => g2 z.1), mI_msI, ifF (fun z => g1 z.1)]
    · exact Tz.ft ((((Ft.rf [0, 1, 20] σ).p_tsI rfl).p_tsI rfl).p_tsI rfl) (by decide)
    · exact ((((Ft.rf [0, 1, 20] σ).p_tsI rfl).p_tsI rfl).p_tsI rfl).mono (by decide)
    · exact fb.2.2.2
/-- no word of the language that may begin a factor: the twin's chain of sums ends at once -/
theorem t_isWord0 (c : Int64) (h : ¬ (tI σ 11 = 1 ∧ tL σ 16 = c)) : F_isWord c σ = some (0, σ) := by
  unfold F_isWord
  by_cases h1 : tI σ 11 = 1
  · rw [ifT h1, ifF (fun z => h ⟨h1, lg_eq.mp z⟩)]
  · rw [ifF h1]
theorem t_isSign0 (c : Int32) (h : ¬ tI σ 11 = 3) : F_isSign c σ = some (0, σ) := by
  unfold F_isSign
  rw [ifF h]
theorem sum_key (P : Pe C M σ i dep c s n) (h39 : ¬ tI σ 39 = 0) (h11 : tI σ 11 = 1) (h16 : tL σ 16 = kco 21) {r p : Int32} (hr : r ≠ 0) (hcs : F_cantStand σ = some ((), tsI (tsI σ 0 r) 1 p)) (dT : Nat) : ∃ y, (G_ands (dT + 3)).2.2.2.2.2.2.1 σ = some (y, tsI (tsI σ 0 r) 1 p) := by
  have hg : ∀ c : Int64, c ≠ kco 21 → F_isWord c σ = some (0, σ) := fun c hc => t_isWord0 c (fun z => hc (by rw [← z.2, h16]))
  have hs : ∀ c : Int32, F_isSign c σ = some (0, σ) := fun c => t_isSign0 c (by rw [h11]; decide)
  have hkey : F_isKey σ = some (1, σ) := t_isKey1 P.px.2.2.2.1.2.1 (w := 21) (by decide) h16
  have hfac : (G_ands (dT + 1)).2.2.2.2.1 σ = some (0, tsI (tsI σ 0 r) 1 p) := by
    show B_factor _ _ _ σ = _
    unfold B_factor
    rw [t_isBad0 P.g0, ob_some, ifT (rfl : (0 : Int32) = 0), h11, ifF (by decide), hs, ob_some, ifT (rfl : (0 : Int32) = 0), h11, ifT (rfl : (1 : Int32) = 1), hg _ (by decide), ob_some, ifT (rfl : (0 : Int32) = 0), hg _ (by decide), ob_some, ifT (rfl : (0 : Int32) = 0), hg _ (by decide), ob_some, ifT (rfl : (0 : Int32) = 0), hg _ (by decide), ob_some, ifT (rfl : (0 : Int32) = 0), hg _ (by decide), ob_some, ifT (rfl : (0 : Int32) = 0), hg _ (by decide), ob_some, ifT (rfl : (0 : Int32) = 0), ifF h39]
    unfold J_factor_227
    rw [ifF h39]
    unfold J_factor_330
    rw [hkey, ob_some, ifF (by decide), hcs, ob_some]
  have hb : tI (tsI (tsI σ 0 r) 1 p) 0 ≠ 0 := hr
  have hterm : ∃ y, (G_ands (dT + 2)).2.2.2.2.2.2.2.1 σ = some (y, tsI (tsI σ 0 r) 1 p) := by
    show ∃ y, B_term (G_ands (dT + 1)).2.2.2.2.1 σ = _
    unfold B_term
    rw [hfac, ob_some, FUs, L_term_5, t_isBad1 hb, ob_some, ifF (by decide), ob_some]
    exact ⟨_, rfl⟩
  obtain ⟨y, hterm⟩ := hterm
  show ∃ y, B_sum (G_ands (dT + 2)).2.2.2.2.2.2.2.1 σ = _
  unfold B_sum J_sum_24
  rw [t_isBad0 P.g0, ob_some, ifT (rfl : (0 : Int32) = 0), hs, ob_some, ifT (rfl : (0 : Int32) = 0), hterm, ob_some, ifT (rfl : (0 : Int32) = 0), FUs, L_sum_43, t_isBad1 hb, ob_some, ifF (by decide), ob_some]
  exact ⟨_, rfl⟩
end IFS
