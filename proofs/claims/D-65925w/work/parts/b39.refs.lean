/-! Layer B: a whole reference -/
set_option maxRecDepth 100000
theorem FUs : FU = (FU - 1) + 1 := rfl
theorem FUb : 1000000 < FU - 1 := by show 1000000 < 4611686018427387903; decide
section REFS
variable {C : PC} {M M' : CM} {σ σ' : TS} {i dep c s n : Nat}
/-- an Ast with nothing but its kind, made anew -/
theorem k_ast (hc : mn M ≤ 601024 ∧ ms M + 8 ≤ 7293034) (h0 : mn M ≠ 0) (k : Int32) : K_X8_init (mn M) k (mnew M 8 0 8) = some ((), msI (mnew M 8 0 8) 1400 (mn M) k) := by
  unfold K_X8_init
  rw [ifT h0, ifT (by rw [mk_mnew, ifT rfl]), nm_eq]
def refM (M : CM) : CM := msR (msR (msI (mnew (msI (mnew M 8 0 8) 1400 (mn M) 101) 22 0 3) 4200 (mn M + 1) 0) 4201 (mn M + 1) 4398046511104) 1405 (mn M) (mn M + 1)
theorem refM_ok (M : CM) (h6 : mn M ≤ 601024) : Fz none_ M (refM M) ∧ mn (refM M) = mn M + 2 ∧ ms (refM M) = ms M + 11 ∧ mk (refM M) (mn M) = 8 ∧ mI (refM M) 1400 (mn M) = 101 ∧ mR (refM M) 1405 (mn M) = mn M + 1 ∧ LsB M (refM M) (mn M + 1) [] := by
  unfold refM
  have F : Fz none_ M (msR (msR (msI (mnew (msI (mnew M 8 0 8) 1400 (mn M) 101) 22 0 3) 4200 (mn M + 1) 0) 4201 (mn M + 1) 4398046511104) 1405 (mn M) (mn M + 1)) := ((((Fz.rf.mnew.msI (fun z => absurd z (Nat.lt_irrefl _))).mnew.msI (fun z => by omega)).msR (fun z => by omega)).msR (fun z => absurd z (Nat.lt_irrefl _)))
  have hk1 : mk (mnew (msI (mnew M 8 0 8) 1400 (mn M) 101) 22 0 3) (mn M + 1) = 22 := by rw [mk_mnew, ifT (show mn M + 1 = mn (msI (mnew M 8 0 8) 1400 (mn M) 101) from rfl)]
  have hs1 : mI (mnew (msI (mnew M 8 0 8) 1400 (mn M) 101) 22 0 3) 4202 (mn M + 1) = 0 := by rw [mI_mnew, ifT (show mn M + 1 = mn (msI (mnew M 8 0 8) 1400 (mn M) 101) from rfl)]
  obtain ⟨_, hL⟩ := ls_init hk1 (by omega) hs1
  refine ⟨F, rfl, rfl, ?_, ?_, ?_, ⟨hL.1, ?_, by decide, fun i hi => absurd hi (Nat.not_lt_zero _), Or.inl ⟨?_, rfl⟩⟩, ⟨by omega, ?_⟩, ?_, fun z => ?_⟩
  · show mk (mnew (msI (mnew M 8 0 8) 1400 (mn M) 101) 22 0 3) (mn M) = 8
    rw [mk_mnew, ifF (by show ¬ mn M = mn M + 1; omega)]
    show mk (mnew M 8 0 8) (mn M) = 8
    rw [mk_mnew, ifT rfl]
  · rw [mI_msR, mI_msR, mI_msI, ifF (by omega), mI_mnew, ifF (by show ¬ mn M = mn M + 1; omega), mI_msI, ifT ⟨rfl, rfl⟩]
  · rw [mR_msR, ifT ⟨rfl, rfl⟩]
  · rw [mI_msR]; exact hL.2.1
  · rw [mR_msR, ifF (by omega), mR_msR, ifT ⟨rfl, rfl⟩]
  · show mn M + 1 < mn M + 2; omega
  · rw [mR_msR, ifF (by omega), mR_msR, ifT ⟨rfl, rfl⟩]; omega
  · exfalso; apply z; rw [mR_msR, ifF (by omega), mR_msR, ifT ⟨rfl, rfl⟩]
theorem k_ref_eq (P : Pe C M σ i dep c s n) (hs : 16 ≤ s) (hc : 2 ≤ c) : K_X2_ref M = obS (KL_X2_ref_21 FU (mn M) (refM M)) (fun r67 M64 => some (r67, M64)) fun _ M64 => some (.inl (mn M), M64) := by
  have h167 := P.n167
  have cap := P.cap (k := 16) (by omega)
  have cap2 := P.2.2.2.1
  unfold K_X2_ref
  have hk1 : mk (mnew (msI (mnew M 8 0 8) 1400 (mn M) 101) 22 0 3) (mn M + 1) = 22 := by rw [mk_mnew, ifT (show mn M + 1 = mn (msI (mnew M 8 0 8) 1400 (mn M) 101) from rfl)]
  have hs1 : mI (mnew (msI (mnew M 8 0 8) 1400 (mn M) 101) 22 0 3) 4202 (mn M + 1) = 0 := by rw [mI_mnew, ifT (show mn M + 1 = mn (msI (mnew M 8 0 8) 1400 (mn M) 101) from rfl)]
  obtain ⟨hI, _⟩ := ls_init hk1 (by omega) hs1
  have hmn : mn (msI (mnew M 8 0 8) 1400 (mn M) 101) = mn M + 1 := rfl
  have hms : ms (msI (mnew M 8 0 8) 1400 (mn M) 101) = ms M + 8 := rfl
  rw [ifT ⟨cap.1, by omega⟩, nm_eq, nm_eq, ifT (by omega), k_ast ⟨cap.1, by omega⟩ (by omega), ob_some, hmn, hms, ifT ⟨by omega, by omega⟩, nm_eq, nm_eq, ifT (by omega), hI, ob_some, ifT, nm_eq]
  · rfl
  · show mk (mnew (msI (mnew M 8 0 8) 1400 (mn M) 101) 22 0 3) (mn M) = 8
    rw [mk_mnew, ifF (by show ¬ mn M = mn M + 1; omega)]
    show mk (mnew M 8 0 8) (mn M) = 8
    rw [mk_mnew, ifT rfl]
theorem z_refFrom (P : Pe C M σ i dep c s n) (hc : 8 ≤ c) (hs : 32 ≤ s) (hn : 4 ≤ n) :
    (∃ M' σ1 σ' i' o q w, K_X2_ref M = some (.inl o, M') ∧ F_passName σ = some (wc M w, σ1) ∧ F_next σ = some ((), σ1) ∧ F_refFrom (wc M w) σ1 = some (nI q, σ') ∧ Pe C M' σ' i' dep (c + 2) (s + 16) (n + 2) ∧ i < i' ∧ Es M σ M' σ' ∧ RfR (fun x => mn M ≤ x ∧ x < mn M') (tQ σ') (cm C) M' σ' o q ∧ q < 7000 ∧ i < ct C) ∨
    (∃ w M' y σ1, K_X2_ref M = some (.inr w, M') ∧ F_passName σ = some (y, σ1) ∧ FB C M σ M' w σ1) ∨
    (∃ w' M' σ1 σ' w r, K_X2_ref M = some (.inr w', M') ∧ F_passName σ = some (wc M w, σ1) ∧ F_next σ = some ((), σ1) ∧ F_refFrom (wc M w) σ1 = some (r, σ') ∧ FB C M σ M' w' σ') := by
  have h167 := P.n167
  obtain ⟨F0, hn0, hs0, hk0, hi0, hr0, hL0⟩ := refM_ok M (P.cap (k := 0) (by omega)).1
  have P1 := P.al F0 (c' := c - 2) (s' := s - 11) (by omega) (by omega)
  have E1 : Es M σ (refM M) σ := Es.al F0 h167
  rw [k_ref_eq P (by omega) (by omega)]
  rw [FUs]
  generalize hM1 : refM M = M1 at *
  rcases ref_core P E1 P1 (by omega) (by omega) (by omega) (o := mn M) (l := mn M + 1) ⟨Nat.le_refl _, by omega⟩ hk0 hr0 hL0 (Nat.zero_le _) with ⟨w, σ2, σ3, M3, ⟨b1, b1'⟩, b2, b3, b4, b5, b6, b7, ⟨b8, b9, b10, b10'⟩, ⟨b11, b12, b13, b14⟩, b15, b16, b17, ⟨b18, b19, b20, b21, b22⟩, b23, b24⟩ | ⟨w, M', y, σ', b1, b2, b3, b4, b5⟩
  · have hwc1 : wc M1 w = wc M w := P.wcs F0 (fun o z => absurd z (fun q => q)) w
    rw [hwc1] at b2 b4 b11
    rw [b5]
    have hnl : mn M1 ≠ mn M + 1 := by omega
    have hFR : ∀ (σ5 : TS) (_ : Nat), F_index (nI (tQ σ)) σ3 = some ((), σ5) → F_refFrom (wc M w) σ2 = ob (L_refFrom_15 FU (nI (tQ σ)) (nI (tQ σ)) σ5) fun _ s38 => some (nI (tQ σ), s38) := fun σ5 _ h => by
      unfold F_refFrom
      rw [b4, ob_some, h, ob_some]
    rcases z_index P b7 b6 (by omega) (by omega) (p := mn M1) (q := tQ σ) ⟨by omega, b23⟩ b18 ⟨b20, b21⟩ ⟨Nat.le_refl _, b9⟩ b12 ⟨b22, b13⟩ with ⟨M5, σ5, i5, c1, c2, c3, c4, c5, c6, c7, c8, c9⟩ | ⟨w', M5, σ5, c1, c2, c3⟩
    · rw [c1]
      have hFR := hFR σ5 0 c2
      have hQ5 : tQ σ5 = tQ σ + 1 := by rw [c9.1.2]; exact b8
      have so5 : ∀ x, x < mn M3 → x ≠ 90 → x ≠ mn M1 → So M3 M5 x := fun x hx h1 h2 => c6.so hx (fun z => by rcases z with z | z; exact h1 z; exact h2 z)
      have hn3 : mn M1 ≤ mn M3 := b17.1
      have hnl2 : mn M1 ≠ mR M3 4201 (mn M + 1) := fun z => by
        have : mk M3 (mR M3 4201 (mn M + 1)) = 55 := by
          rcases b16.1.2.2.2.2 with ⟨q, _⟩ | ⟨_, q, _⟩
          · have := b6.cap (k := 0) (by omega); rw [q] at z; omega
          · exact q
        rw [← z, b18] at this; exact absurd this (by decide)
      have h390 : mR M3 4201 (mn M + 1) ≠ 90 := fun z => by
        by_cases e : mR M3 4201 (mn M + 1) = 4398046511104
        · rw [e] at z; exact absurd z (by decide)
        · have := b16.2.2.2 e; omega
      have hL5 : LsB M M5 (mn M + 1) ([] ++ [mn M1]) := b16.kp c6 (fun z => by rcases z with z | z <;> omega) (fun z => by rcases z with z | z; exact h390 z; exact hnl2 z.symm)
      have so3 : So M1 M3 (mn M) := b17.so (by omega) (fun z => by
        rcases z with z | z | z
        · omega
        · omega
        · have : mR M1 4201 (mn M + 1) = 4398046511104 := by
            rcases hL0.1.2.2.2.2 with ⟨q, _⟩ | ⟨q1, q2, q3, q4, q5, q6⟩
            · exact q
            · rw [← z, hk0] at q2; exact absurd q2 (by decide)
          have := P.cap (k := 0) (by omega); omega)
      have so5o : So M3 M5 (mn M) := so5 (mn M) (by omega) (by omega) (by omega)
      rcases ref_loop P (o := mn M) (l := mn M + 1) 2001 M5 σ5 i5 (tQ σ) ([] ++ [mn M1]) (FU - 1) FU (nI (tQ σ)) (by have := P.t1280; omega) (by have := FUb; omega) (by have := FUb; omega) c4 c3 (by omega) (by omega) (by omega) ⟨Nat.le_refl _, by have := c6.1; omega⟩ (by rw [so5o.k, so3.k]; exact hk0) (by rw [so5o.r, so3.r]; exact hr0) hL5 (by show 1 ≤ i5; omega) ⟨Nat.le_refl _, by omega, b9⟩ (by rw [c9.2.1 33 (by decide) (tQ σ) (by omega)]; exact b14) with ⟨M6, σ6, i6, rest, q', e1, e2, e3, e4, e5, e6, ⟨X, e7, e7'⟩, e8, e9, e10, ⟨e11, e11'⟩, e12, e13, e14⟩ | ⟨w', M6, σ6, e1, e2, e3⟩
      · left
        have e1 : tlR (FU - 1) (mn M) M5 = some (.inl (), M6) := e1
        rw [e1, obS_inl]
        rw [e2, ob_some] at hFR
        have hmn6 : mn M1 < mn M6 := by have := e7.1; have := c6.1; omega
        have so6p : So M5 M6 (mn M1) := e7.so (by have := c6.1; omega) (fun z => by
          rcases e7' _ z with z | z | z
          · omega
          · exact hnl z
          · rw [c6.k b23, b18] at z; exact absurd z (by decide))
        have so6o : So M5 M6 (mn M) := e7.so (by have := c6.1; omega) (fun z => by
          rcases e7' _ z with z | z | z
          · omega
          · omega
          · rw [so5o.k, so3.k, hk0] at z; exact absurd z (by decide))
        have hwcM : ∀ w', wc M6 w' = wc M w' := fun w' => P.wcs e4.1 (fun o z => by rw [z]; exact P.en.1) w'
        have hwc5 : ∀ w', wc M5 w' = wc M w' := fun w' => P.wcs c4.1 (fun o z => by rw [z]; exact P.en.1) w'
        refine ⟨M6, σ2, σ6, i6, mn M, tQ σ, w, rfl, b2, b3, hFR, e3.wk (by omega) (by omega) (by omega), by omega, e4, ⟨⟨Nat.le_refl _, by omega⟩, by rw [so6o.k, so5o.k, so3.k]; exact hk0, by rw [so6o.i, so5o.i, so3.i]; exact hi0, mn M1 :: rest, by simp, ?_, ⟨⟨b10, by omega⟩, ⟨⟨⟨by omega, hmn6⟩, by rw [so6p.k, c6.k b23]; exact b18⟩, ⟨w, by rw [so6p.i, c7]; exact b19, b1, b1', ?_⟩, ?_⟩, q', e8, e9, e10⟩⟩, b9, b24⟩
        · rw [so6o.r, so5o.r, so3.r, hr0]
          exact ⟨e6.1, ⟨e6.2.1.1, e6.2.1.2⟩, fun z => ⟨e6.2.2.2 z, by
            rcases e6.1.2.2.2.2 with ⟨q, _⟩ | ⟨q, _⟩
            · exact absurd q z
            · exact q.1⟩⟩
        · rw [e13 29 (by decide) (tQ σ) (by omega), c9.2.2 29 (by decide) (tQ σ) (by omega), b11, hwcM]
        · rw [e12 31 (by decide) (tQ σ) (by omega) (by omega), e12 32 (by decide) (tQ σ) (by omega) (by omega), e13 30 (by decide) (tQ σ) (by omega), so6p.i, so6p.i, so6p.i]
          rcases c8 with c8 | c8 | ⟨c8, c8a, ⟨w', c8b, c8c, c8d, c8e⟩, c8f⟩
          · exact Or.inl c8
          · exact Or.inr (Or.inl c8)
          · exact Or.inr (Or.inr ⟨c8, c8a, ⟨w', c8b, c8c, c8d, by rw [hwcM, ← hwc5]; exact c8e⟩, c8f⟩)
      · right; right
        have e1 : tlR (FU - 1) (mn M) M5 = some (.inr (.inr w'), M6) := e1
        rw [e1, obS_inr]
        rw [e2, ob_some] at hFR
        exact ⟨w', M6, σ2, σ6, w, _, rfl, b2, b3, hFR, e3⟩
    · right; right
      have hFR := hFR σ5 0 c2
      rw [FUs, L_refFrom_15, t_isBad1 c3.2.2.2.1, ob_some, ifF (by decide), ob_some] at hFR
      rw [c1, obS_inr]
      exact ⟨w', M5, σ2, σ5, w, _, rfl, b2, b3, hFR, c3⟩
  · right; left
    rw [b1, obS_inr]
    exact ⟨w, M', y, σ', rfl, b2, b3⟩
/-- ref, both from the name on -/
theorem z_ref (P : Pe C M σ i dep c s n) (hc : 8 ≤ c) (hs : 32 ≤ s) (hn : 4 ≤ n) : (∃ M' σ' i' o q, K_X2_ref M = some (.inl o, M') ∧ F_ref σ = some (nI q, σ') ∧ Pe C M' σ' i' dep (c + 2) (s + 16) (n + 2) ∧ i < i' ∧ Es M σ M' σ' ∧ RfR (fun x => mn M ≤ x ∧ x < mn M') (tQ σ') (cm C) M' σ' o q ∧ q < 7000) ∨ ∃ w M' y σ', K_X2_ref M = some (.inr w, M') ∧ F_ref σ = some (y, σ') ∧ FB C M σ M' w σ' := by
  unfold F_ref
  rcases z_refFrom P hc hs hn with ⟨M', σ1, σ', i', o, q, w, a1, a2, a3, a4, a5, a6, a7, a8, a9, a10⟩ | ⟨w, M', y, σ1, a1, a2, a3⟩ | ⟨w', M', σ1, σ', w, r, a1, a2, a3, a4, a5⟩
  · left
    have h0 : tI σ1 0 = 0 := by rw [(fS_F_next _ _ _ a3 0 rfl).1]; exact P.g0
    rw [a2, ob_some, t_isBad0 h0, ob_some, ifT rfl, a4, ob_some]
    exact ⟨M', σ', i', o, q, a1, rfl, a5, a6, a7, a8, a9⟩
  · right
    rw [a2, ob_some, t_isBad1 a3.2.2.2.1, ob_some, ifF (by decide)]
    exact ⟨w, M', 0, σ1, a1, rfl, a3⟩
  · right
    have h0 : tI σ1 0 = 0 := by rw [(fS_F_next _ _ _ a3 0 rfl).1]; exact P.g0
    rw [a2, ob_some, t_isBad0 h0, ob_some, ifT rfl, a4, ob_some]
    exact ⟨w', M', r, σ', a1, rfl, a5⟩
end REFS
