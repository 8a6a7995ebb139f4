/-! Layer B: opened, der, factor -/
set_option maxRecDepth 100000
section FACTORS
variable {C : PC} {M M' M0 Mb : CM} {σ σ' σ0 σb : TS} {i dep c s n so ib depb cb' sb' nb' i0 v l p w : Nat} {cfK : CM → Option ((Nat ⊕ Nat) × CM)} {cfN : Int32 → CM → Option ((Nat ⊕ Nat) × CM)} {cfT : TS → Option (Int32 × TS)} {tO : Int32 → Int32 → TS → Option (Int32 × TS)} {tC : Int64 → Int32 → TS → Option (Int32 × TS)}
theorem PC.lo_self : C.lo (cfn C 1000) = C := by
  have e : (fun k => if k = 1000 then cfn C 1000 else cfn C k) = cfn C := by
    funext k
    by_cases h : k = 1000
    · rw [if_pos h, h]
    · rw [if_neg h]
  unfold PC.lo
  rw [e]
  rfl
theorem bw_o55 {s' : TS} (hb : Br C σ s') (k a b : Int32) : BW C σ (J_opened_55 cfT k a b s') := by
  unfold J_opened_55
  exact BW.bo (bw_pass hb _) fun _ s hb => BW.nm20 hb fun s hb => BW.bo (bw_node hb _ _ _ _) fun r s hs => BW.sm hs
theorem bw_o24 {s' : TS} (hbE : ∀ σ1 s, Br C σ1 s → BW C σ1 (cfT s)) (hb : Br C σ s') (k m : Int32) : BW C σ (J_opened_24 cfT k m s') := by
  unfold J_opened_24
  exact BW.bo (bw_pass hb _) fun _ s hb => BW.bo (hbE _ _ hb) fun r s hb => BW.ite (BW.bo (bw_pass hb _) fun _ s hb => BW.bo (hbE _ _ hb) fun r s hb => bw_o55 hb _ _ _) (bw_o55 hb _ _ _)
theorem opened_ok {wd many kt : Int32} (hexpr : ∀ (M : CM) (σ : TS) (i' c s n : Nat), i < i' → 64 ≤ c → 4096 ≤ s → 16 ≤ n → Pe C M σ i' (dep + 1) c s n → Ok C M σ i' (dep + 1) c s n 0 (cfK M) (cfT σ)) (hbE : ∀ σ1 s, Br C σ1 s → BW C σ1 (cfT s)) (P : Pe C M σ i dep c s n) (hc : 64 ≤ c) (hs : 4096 ≤ s) (hn : 16 ≤ n) (hi : i < ct C) (h92 : mA M 92 i = wd) (hk : (many = 1 ∧ (wd, kt) ∈ unL ∧ wd ≠ 33 ∧ wd ≠ 34) ∨ (many = 2 ∧ (wd, kt) ∈ biL ∧ (wd = 33 ∨ wd = 34))) : Ok C M σ i dep c s n 0 (KJ_X2_factor_283 cfK cfN M) (B_opened cfT kt many σ) := by
  have h167 := P.n167
  obtain ⟨g1, g2⟩ := P.px.in1
  obtain ⟨σ1, n1, P1, E1⟩ := z_step P hi
  unfold KJ_X2_factor_283 B_opened
  rw [ifT g1, nm_eq, nm_eq, g2, h92, P.i5, nI_addL, n1, ob_some, t_isBad0 P1.g0, ob_some, ifT (rfl : (0 : Int32) = 0)]
  rcases z_opens P1 (by omega) (by omega) with ⟨M2, σ2, o1, o2, o3, o4, P2, E2, hd, hi2, hm⟩ | ⟨w, M', σ', o1, o2, o3, fb⟩ | ⟨w, M', σ', o1, o2, o3, fb⟩
  · rw [o1, obS_inl, o2, ob_some, ifF (show ¬ (1 : Int32) = 0 from by decide), o3, ob_some]
    unfold J_opened_24
    rw [o4, ob_some]
    have hmn : mn M2 = mn M := by rw [hm]; rfl
    refine Ok.of (Rj.ok (E1.tr E2) (hexpr M2 σ2 (i + 1 + 1) _ _ _ (by omega) (by omega) (by omega) (by omega) P2) (fun a M3 x σ3 i3 P3 hi3 E3 E23 R3 => ?_) (fun σ1 r s hb => BW.ite (BW.bo (bw_pass hb _) fun _ s hb => BW.bo (hbE _ _ hb) fun r s hb => bw_o55 hb _ _ _) (bw_o55 hb _ _ _)))
    rcases hk with ⟨rfl, hu, h33, h34⟩ | ⟨rfl, hu, h3⟩
    · rw [ifF h33, ifF h34, ifF (show ¬ (1 : Int32) = 2 from by decide)]
      unfold J_opened_55
      refine Rj.cl E3 P3 (by omega) (by omega) (fun M4 σ4 P4 E4 E34 hm4 => ?_) (fun σ1 _ s hb => BW.bo (bw_node hb _ _ _ _) fun r s hs => BW.sm hs)
      obtain ⟨cap, h0, σ5, M5, k1, k2, P5, E5, E45, hv, ⟨a1, a2, a3, a4⟩, j1, j2, j3, j4⟩ := new_node E4 (P4.wk (c' := c + 1) (s' := s + 8) (n' := n + 1) (by omega) (by omega) (by omega)) wd a 0 0 kt (nI x) 0 0
      rw [ifT cap, nm_eq, nm_eq, ifT h0, k1, ob_some, k2, ob_some]
      refine Or.inl ⟨mn M4, M5, _, σ5, rfl, rfl, tN σ4, i3 + 1, rfl, P5, by omega, E5, Rs.n1 P5 hv (Or.inl ⟨rfl, by rw [j1, a1]; exact hu⟩) j3 j4 a2 ?_⟩
      rw [j2]; exact (R3.dn P3 (M0 := M) (by omega)).mv P3 h167 (E34.tr E45)
    · have e : ∀ (A B : Option ((Nat ⊕ Nat) × CM)), (if wd = 33 then A else if wd = 34 then A else B) = A := fun A B => by
        by_cases z : wd = 33
        · rw [ifT z]
        · rw [ifF z, ifT (by rcases h3 with h | h; exact absurd h z; exact h)]
      rw [e, ifT (rfl : (2 : Int32) = 2)]
      unfold KJ_X2_factor_327
      refine Rj.st2 E3 (z_pass P3 (by omega) (by omega) (x := 44) (by decide)) (fun _ _ σ4 P4 E4 E34 hi4 _ => ?_) (fun σ1 _ s hb => BW.bo (hbE _ _ hb) fun r s hb => bw_o55 hb _ _ _)
      refine Rj.ok E4 (hexpr _ σ4 (i3 + 1) _ _ _ (by omega) (by omega) (by omega) (by omega) P4) (fun b M5 y σ5 i5 P5 hi5 E5 E45 R5 => ?_) (fun σ1 r s hb => bw_o55 hb _ _ _)
      unfold J_opened_55
      refine Rj.cl E5 P5 (by omega) (by omega) (fun M6 σ6 P6 E6 E56 hm6 => ?_) (fun σ1 _ s hb => BW.bo (bw_node hb _ _ _ _) fun r s hs => BW.sm hs)
      obtain ⟨cap, h0, σ7, M7, k1, k2, P7, E7, E67, hv, ⟨a1, a2, a3, a4⟩, j1, j2, j3, j4⟩ := new_node E6 (P6.wk (c' := c + 1) (s' := s + 8) (n' := n + 1) (by omega) (by omega) (by omega)) wd a b 0 kt (nI x) (nI y) 0
      rw [ifT cap, nm_eq, nm_eq, ifT h0, k1, ob_some, k2, ob_some]
      refine Or.inl ⟨mn M6, M7, _, σ7, rfl, rfl, tN σ6, i5 + 1, rfl, P7, by omega, E7, Rs.n2 P7 hv (Or.inl ⟨rfl, by rw [j1, a1]; exact hu⟩) j4 a2 ?_ a3 ?_⟩
      · rw [j2]; exact (R3.dn P3 (M0 := M) (by omega)).mv P3 h167 (E34.tr (E45.tr (E56.tr E67)))
      · rw [j3]; exact (R5.dn P5 (M0 := M) (by have := E4.1.1; exact this)).mv P5 h167 (E56.tr E67)
  · rw [o1, obS_inr, o2, ob_some, ifT (rfl : (0 : Int32) = 0)]
    unfold J_opened_24
    rw [o3, ob_some]
    have fb := fb.tr E1
    exact Or.inr (FB.ko fb (BW.bo (hbE _ _ fb.bd) fun r s hb => BW.ite (BW.bo (bw_pass hb _) fun _ s hb => BW.bo (hbE _ _ hb) fun r s hb => bw_o55 hb _ _ _) (bw_o55 hb _ _ _)))
  · rw [o1, obS_inr, o2, ob_some, ifF (show ¬ (1 : Int32) = 0 from by decide), o3, ob_some]
    have fb := fb.tr E1
    exact Or.inr (FB.ko fb (bw_o24 hbE fb.bd _ _))
theorem der_ok {wd y0 : Int32} (hcr : car C = 0) (P : Pe C M σ i dep c s n) (hc : 64 ≤ c) (hs : 4096 ≤ s) (hn : 16 ≤ n) (hi : i < ct C) (h92 : mA M 92 i = wd) (hk : wd = 26 ∧ y0 = 3 ∨ wd = 27 ∧ y0 = 4) : Ok C M σ i dep c s n 0 (KJ_X2_factor_184 cfK cfN M) (J_factor_269 cfT tO tC y0 σ) := by
  have h167 := P.n167
  obtain ⟨g1, g2⟩ := P.px.in1
  obtain ⟨σ1, n1, P1, E1⟩ := z_step P hi
  unfold KJ_X2_factor_184 J_factor_269
  rw [ifT g1, nm_eq, nm_eq, g2, h92, P.i5, nI_addL, n1, ob_some, t_isBad0 P1.g0, ob_some, ifT (rfl : (0 : Int32) = 0)]
  rcases z_opens P1 (by omega) (by omega) with ⟨M2, σ2, o1, o2, o3, o4, P2, E2, hd, hi2, hm⟩ | ⟨w, M', σ', o1, o2, o3, fb⟩ | ⟨w, M', σ', o1, o2, o3, fb⟩
  · rw [o1, obS_inl, o2, ob_some, ifF (show ¬ (1 : Int32) = 0 from by decide), o3, ob_some]
    unfold J_factor_294
    rw [o4, ob_some]
    have hmn : mn M2 = mn M := by rw [hm]; rfl
    rcases z_ref P2 (by omega) (by omega) (by omega) with ⟨M3, σ3, i3, o, q, a1, a2, P3, hi3, E3, R, hq⟩ | ⟨w, M3, y, σ3, a1, a2, fb⟩
    · rw [a1, obS_inl, a2, ob_some]
      have E03 := (E1.tr E2).tr E3
      have n23 := E3.1.1
      refine Ok.of (Rj.cl E03 P3 (by omega) (by omega) (fun M4 σ4 P4 E4 E34 hm4 => ?_) (fun σ1 _ s hb => BW.bo (bw_node hb _ _ _ _) fun r s hs => BW.sm hs))
      obtain ⟨cap, h0, σ5, M5, k1, k2, P5, E5, E45, ⟨hv1, hv2, hv3, hv4⟩, ⟨b1, b2, b3, b4⟩, j1, j2, j3, j4⟩ := new_node E4 (P4.wk (c' := c + 1) (s' := s + 8) (n' := n + 1) (by omega) (by omega) (by omega)) wd o 0 0 y0 (nI q) 0 0
      rw [ifT cap, nm_eq, nm_eq, ifT h0, k1, ob_some, k2, ob_some]
      have E35 := E34.tr E45
      have z35 := E35.2.2.2.1
      have n35 := E35.1.1
      refine Or.inl ⟨mn M4, M5, _, σ5, rfl, rfl, tN σ4, i3 + 1, rfl, P5, by omega, E5, 1, ⟨hv1, hv2, hv3, hv4⟩, Or.inr (Or.inr (Or.inr (Or.inl ⟨rfl, hcr, ?_, q, b2, hq, ?_⟩)))⟩
      · rw [j1, b1]
        rcases hk with ⟨h1, h2⟩ | ⟨h1, h2⟩
        · exact Or.inl ⟨h1, h2⟩
        · exact Or.inr ⟨h1, h2⟩
      · rw [j2]
        exact R.mv (P3.mv E35 (Q := fun x => mn M2 ≤ x ∧ x < mn M3) (fun o z => ⟨z.2, by have := z.1; omega⟩)) (fun o z => ⟨by have := z.1; omega, by have := z.2; omega⟩) z35.1.2
    · rw [a1, obS_inr, a2, ob_some]
      have fb := fb.tr (E1.tr E2)
      exact Or.inr (FB.ko fb (BW.bo (bw_pass fb.bd _) fun _ s hb => BW.nm20 hb fun s hb => BW.bo (bw_node hb _ _ _ _) fun r s hs => BW.sm hs))
  · rw [o1, obS_inr, o2, ob_some, ifT (rfl : (0 : Int32) = 0)]
    unfold J_factor_294
    rw [o3, ob_some]
    have fb := fb.tr E1
    exact Or.inr (FB.ko fb (BW.bo (bw_ref fb.bd) fun r s hb => BW.bo (bw_pass hb _) fun _ s hb => BW.nm20 hb fun s hb => BW.bo (bw_node hb _ _ _ _) fun r s hs => BW.sm hs))
  · rw [o1, obS_inr, o2, ob_some, ifF (show ¬ (1 : Int32) = 0 from by decide), o3, ob_some]
    unfold J_factor_294
    have fb := fb.tr E1
    exact Or.inr (FB.ko fb (BW.bo (bw_pass fb.bd _) fun _ s hb => BW.bo (bw_ref hb) fun r s hb => BW.bo (bw_pass hb _) fun _ s hb => BW.nm20 hb fun s hb => BW.bo (bw_node hb _ _ _ _) fun r s hs => BW.sm hs))
theorem factor_ok (dK dT : Nat) (hexpr : ∀ (L eK eT : Nat), dK ≤ eK → dT + 1 ≤ eT → ∀ (M : CM) (σ : TS) (i' c s n : Nat), i < i' → 64 ≤ c → 4096 ≤ s → 16 ≤ n → Pe (C.lo L) M σ i' (dep + 1) c s n → Ok (C.lo L) M σ i' (dep + 1) c s n 0 ((KG_X2_both eK).2.2.1 M) ((G_ands eT).2.2.2.1 σ)) (P : Pe C M σ i dep c s n) (hc : 64 ≤ c) (hs : 4096 ≤ s) (hn : 16 ≤ n) : Ok C M σ i dep c s n 0 ((KG_X2_both (dK + 2)).2.2.2.1 M) ((G_ands (dT + 3)).2.2.2.2.1 σ) := by
  show Ok C M σ i dep c s n 0 (KB_X2_factor (KG_X2_both (dK + 1)).2.2.1 (KB_X2_named (KG_X2_both dK).2.2.1) M) (B_factor (G_ands (dT + 2)).2.2.2.1 (B_opened (G_ands (dT + 1)).2.2.2.1) (B_call (G_ands (dT + 1)).2.2.2.1) σ)
  have hx : ∀ (eK eT : Nat), dK ≤ eK → dT + 1 ≤ eT → ∀ (M : CM) (σ : TS) (i' c s n : Nat), i < i' → 64 ≤ c → 4096 ≤ s → 16 ≤ n → Pe C M σ i' (dep + 1) c s n → Ok C M σ i' (dep + 1) c s n 0 ((KG_X2_both eK).2.2.1 M) ((G_ands eT).2.2.2.1 σ) := fun eK eT h1 h2 => by
    have h := hexpr (cfn C 1000) eK eT h1 h2
    rw [PC.lo_self] at h
    exact h
  have hb1 : ∀ σ1 s, Br C σ1 s → BW C σ1 ((G_ands (dT + 1)).2.2.2.1 s) := fun σ1 s hb => bw_expression hb _
  have h167 := P.n167
  have hit := P.it
  obtain ⟨g1, g2⟩ := P.px.in1
  have h12 := P.at12
  obtain ⟨r, p, hr, s1, s2⟩ := y_stop P.px (P.cap (by omega))
  have hr0 : r ≠ 0 := by rcases hr with rfl | rfl <;> decide
  have stp : ∀ (x : Int32), Ok C M σ i dep c s n 0 (some (.inr (mn M), wM M r p)) (some (x, tsI (tsI σ 0 r) 1 p)) := fun x => Or.inr (FB.ko0 (P.fb (by omega) (by omega) hr0))
  unfold KB_X2_factor B_factor
  rw [ifT g1, nm_eq, ifT g1, g2, t_isBad0 P.g0, ob_some, ifT (rfl : (0 : Int32) = 0)]
  rcases z_num P with ⟨n1, n2, n3, n4, x, n5, n6⟩ | ⟨n1, n2⟩
  · have cap := P.cap (k := 8) (by omega)
    obtain ⟨j1, j2, j3, j4, j5, j6⟩ := lfM_ok M 100 (tI σ 15)
    have P1 := P.al j1 (c' := c - 1) (s' := s - 8) (by omega) (by omega)
    have E1 := Es.al (σ := σ) j1 h167
    obtain ⟨σ1, m1, P2, E2⟩ := z_step P1 n3
    obtain ⟨σ7, q1, q2, q3, q4, q5, ⟨q6, q7, q8, q9⟩, P7, E7⟩ := y_node (n := n + 3) P2 0 (tI σ 15) 0 0
    have e405 : mI (msI (mnew M 8 0 8) 1400 (mn M) 100) 405 90 = nI i := by rw [mI_msI, ifF (by omega), mI_mnew, ifF (by omega)]; exact P.i5
    have e92 : mA (msI (mnew M 8 0 8) 1400 (mn M) 100) 92 i = tI σ 15 := by
      show mA (mnew M 8 0 8) 92 i = _
      rw [mA_mnew, ifF (by omega)]; exact n4
    have k8 : mk (msI (mnew M 8 0 8) 1400 (mn M) 100) (mn M) = 8 := j4
    have e405' : mI (lfM M 100 (tI σ 15)) 405 90 = nI i := P1.i5
    rw [ifT n1, ifT n2, ifT cap, nm_eq, nm_eq, ifT (by omega), k_ast cap (by omega) 100, ob_some, e405, ifT (show inb (nI i) 2001 from inb_nI' (by omega) (by decide)), ifT k8, nm_eq, nm_eq, ix_nI (by omega), e92]
    rw [show msI (msI (mnew M 8 0 8) 1400 (mn M) 100) 1401 (mn M) (tI σ 15) = lfM M 100 (tI σ 15) from rfl, e405', nI_addL, nm_eq, m1, ob_some, q1, ob_some]
    have so : So (lfM M 100 (tI σ 15)) (msI (lfM M 100 (tI σ 15)) 405 90 (nI (i + 1))) (mn M) := E2.1.so (by omega) (by omega)
    exact Or.inl ⟨mn M, _, tN σ1, σ7, i + 1, rfl, rfl, P7.wk (by omega) (by omega) (by omega), by omega, (E1.tr E2).tr E7, 1, ⟨⟨Nat.le_refl _, by show mn M < mn (lfM M 100 (tI σ 15)); omega⟩, by rw [so.k]; exact j4, q5, by omega⟩, Or.inl ⟨rfl, by rw [so.i]; exact j5, q6, by rw [so.i, j6, q7], x, by rw [q7]; exact n5, n6⟩⟩
  rw [ifF n1, ifF n2]
  rcases y_sgn P.px (x := 40) (by decide) with ⟨v1, v2, hi, v4, v5⟩ | ⟨v1, v2⟩
  · -- a parenthesis
    have hk : K_X2_take 40 M = some (1, msI M 405 90 (nI (i + 1))) := by
      unfold K_X2_take K_X2_isSign
      rw [ifT g1, g2, ifT v1, ob_some, ifF (show ¬ (1 : Int32) = 0 from by decide), nm_eq, P.i5, nI_addL]
    rw [hk, ob_some, ifF (show ¬ (1 : Int32) = 0 from by decide), v2, ob_some, ifF (show ¬ (1 : Int32) = 0 from by decide)]
    rcases z_deepNext P (by omega) (by omega) hi with ⟨M2, t1, σ2, o1, o2, o3, P2, E2, hd, hm⟩ | ⟨w', M2, σ2, o1, o2, fb⟩
    · rw [o1, obS_inl, o2, ob_some, o3, ob_some]
      refine Ok.of (Rj.ok E2 (hx _ _ (by omega) (by omega) M2 σ2 (i + 1) _ _ _ (by omega) (by omega) (by omega) (by omega) P2) (fun a M3 x σ3 i3 P3 hi3 E3 E23 R3 => ?_) (by intro σ1 r s hb; repeat' (first | exact BW.sm hb | (refine BW.bo (bw_next hb) ?_; intro r s hb) | (refine BW.bo (bw_ref hb) ?_; intro r s hb) | (refine BW.bo (bw_passName hb) ?_; intro r s hb) | (refine BW.bo (bw_pass hb _) ?_; intro r s hb) | (refine BW.bo (bw_isSign hb _) ?_; intro r s hb) | (refine BW.bo (bw_passWhole hb _) ?_; intro r s hb) | (refine BW.bo (bw_sampleNumber hb _) ?_; intro r s hb) | (refine BW.bo (bw_expression hb _) ?_; intro r s hb) | (refine BW.bo (bw_condition hb _) ?_; intro r s hb) | (refine BW.bo (bw_sum hb _) ?_; intro r s hb) | (refine BW.bo (bw_test hb _) ?_; intro r s hb) | (refine BW.bo (bw_term hb _) ?_; intro r s hb) | (refine BW.bo (bw_ands hb _) ?_; intro r s hb) | (refine BW.bo (bw_passWord hb _) ?_; intro r s hb) | (refine BW.bo (bw_isWord hb _) ?_; intro r s hb) | (refine BW.bo (bw_factor hb _) ?_; intro r s hb) | (refine BW.bo (bw_node hb _ _ _ _) ?_; intro r s hb) | (refine BW.nm20 hb ?_; intro s hb) | refine BW.isBad hb ?_ | refine BW.ite ?_ ?_)))
      have e : ∀ M : CM, (obS (K_X2_sign 41 M) (fun w198 M194 => some ((.inr w198 : Nat ⊕ Nat), M194)) fun _ M194 => nm (msI M194 406 90 ((mI M194 406 90) - 1)) fun M199 => some (.inl a, M199)) = obS (K_X2_closes M) (fun w M => some (.inr w, M)) fun _ M => some (.inl a, M) := fun M => by
        unfold K_X2_closes
        rcases K_X2_sign 41 M with _ | ⟨r | r, s⟩ <;> rfl
      rw [e]
      refine Rj.cl E3 P3 (by omega) (by omega) (fun M4 σ4 P4 E4 E34 hm4 => ?_) (fun σ1 _ s hb => BW.sm hb)
      exact Or.inl ⟨a, M4, _, σ4, rfl, rfl, x, _, rfl, P4.wk (by omega) (by omega) (by omega), by omega, E4, (R3.dn P3 (M0 := M) (by omega)).mv P3 h167 E34⟩
    · rw [o1, obS_inr, o2, ob_some]
      exact Or.inr (FB.ko fb (((by intro σ1 r s hb; repeat' (first | exact BW.sm hb | (refine BW.bo (bw_next hb) ?_; intro r s hb) | (refine BW.bo (bw_ref hb) ?_; intro r s hb) | (refine BW.bo (bw_passName hb) ?_; intro r s hb) | (refine BW.bo (bw_pass hb _) ?_; intro r s hb) | (refine BW.bo (bw_isSign hb _) ?_; intro r s hb) | (refine BW.bo (bw_passWhole hb _) ?_; intro r s hb) | (refine BW.bo (bw_sampleNumber hb _) ?_; intro r s hb) | (refine BW.bo (bw_expression hb _) ?_; intro r s hb) | (refine BW.bo (bw_condition hb _) ?_; intro r s hb) | (refine BW.bo (bw_sum hb _) ?_; intro r s hb) | (refine BW.bo (bw_test hb _) ?_; intro r s hb) | (refine BW.bo (bw_term hb _) ?_; intro r s hb) | (refine BW.bo (bw_ands hb _) ?_; intro r s hb) | (refine BW.bo (bw_passWord hb _) ?_; intro r s hb) | (refine BW.bo (bw_isWord hb _) ?_; intro r s hb) | (refine BW.bo (bw_factor hb _) ?_; intro r s hb) | (refine BW.bo (bw_node hb _ _ _ _) ?_; intro r s hb) | (refine BW.nm20 hb ?_; intro s hb) | refine BW.isBad hb ?_ | refine BW.ite ?_ ?_)) : ∀ σ1 (_ : Unit) s, Br C σ1 s → BW C σ1 (ob (F_next s) fun _ s229 => ob ((G_ands (dT + 2)).2.2.2.1 s229) fun r234 s233 => ob (F_pass 41 s233) fun _ s237 => nm (tsI s237 20 ((tI s237 20) - 1)) fun s241 => some (r234, s241))) _ () _ fb.bd))
  have hk : K_X2_take 40 M = some (0, M) := by
    unfold K_X2_take K_X2_isSign
    rw [ifT g1, g2, ifF v1, ob_some, ifT (rfl : (0 : Int32) = 0)]
  rw [hk, ob_some, ifT (rfl : (0 : Int32) = 0), v2, ob_some, ifT (rfl : (0 : Int32) = 0)]
  rcases y_name0 P.px with ⟨w, e1, e2, e3, hi, h11, h91, h92, hw38, hw, hwc⟩ | ⟨e1, e2, e3⟩
  · -- a name
    rw [e1, ob_some, ifF (show ¬ (1 : Int32) = 0 from by decide), obS_id, ifT h11]
    obtain ⟨L, W, -⟩ := P.wb
    have tx : ∀ (j : Nat) (c : Int64), j < 38 → c = kco j → F_isWord c σ = some (0, σ) := fun j c hj hc => t_isWord0 c (fun z => by
      have := (wc_key W hw hj).mp (by rw [hwc, z.2, hc])
      omega)
    rw [tx 31 _ (by decide) (by decide), ob_some, ifT (rfl : (0 : Int32) = 0), tx 32 _ (by decide) (by decide), ob_some, ifT (rfl : (0 : Int32) = 0), tx 35 _ (by decide) (by decide), ob_some, ifT (rfl : (0 : Int32) = 0), tx 36 _ (by decide) (by decide), ob_some, ifT (rfl : (0 : Int32) = 0), tx 33 _ (by decide) (by decide), ob_some, ifT (rfl : (0 : Int32) = 0), tx 34 _ (by decide) (by decide), ob_some, ifT (rfl : (0 : Int32) = 0)]
    have nk := named_ok (tE := (G_ands (dT + 2)).2.2.2.1) (tO := B_opened (G_ands (dT + 1)).2.2.2.1) (fun L M σ i' c s n h1 h2 h3 h4 h5 => hexpr L dK (dT + 1) (Nat.le_refl _) (Nat.le_refl _) M σ i' c s n h1 h2 h3 h4 h5) hb1 P hc hs hn e3 hi h11 h92 hw38 hw hwc
    have t227 : J_factor_227 (G_ands (dT + 2)).2.2.2.1 (B_opened (G_ands (dT + 1)).2.2.2.1) (B_call (G_ands (dT + 1)).2.2.2.1) σ = J_factor_330 (G_ands (dT + 2)).2.2.2.1 (B_opened (G_ands (dT + 1)).2.2.2.1) (B_call (G_ands (dT + 1)).2.2.2.1) σ := by
      unfold J_factor_227
      by_cases h39 : tI σ 39 = 0
      · rw [ifT h39, tx 26 _ (by decide) (by decide), ob_some, ifT (rfl : (0 : Int32) = 0), tx 27 _ (by decide) (by decide), ob_some, ifT (rfl : (0 : Int32) = 0)]
      · rw [ifF h39]
    by_cases h39 : tI σ 39 = 0
    · rw [ifT h39, tx 30 _ (by decide) (by decide), ob_some, ifT (rfl : (0 : Int32) = 0), t227]
      exact nk
    · rw [ifF h39, t227]
      exact nk
  rw [e1, ob_some, ifT (rfl : (0 : Int32) = 0)]
  by_cases h11 : tI σ 11 = 1
  · -- a word of the language
    obtain ⟨f1, w, hw, f2, f3⟩ := e3 h11
    have hi : i < ct C := by
      obtain ⟨kd, s, ⟨b1, b2, b3, b4, b5, b6⟩, b7⟩ := P.px.2.2.2.2.1
      have : kd = 1 := (bI_eq (a := kd) (b := 1) (by omega) (by decide)).mp (by rw [← b4, h11]; rfl)
      exact b6.mpr (Or.inl this)
    have f4 : tL σ 16 = kco w := by
      obtain ⟨kd, s, ⟨b1, b2, b3, b4, b5, b6⟩, b7⟩ := P.px.2.2.2.2.1
      rcases b7 with ⟨q, q2⟩ | ⟨q, q2, w', q3, q4, q5⟩ | ⟨q, q2, _⟩ | ⟨q, q2, q3⟩ | ⟨q, q2⟩
      · rw [f3] at q2; exact absurd q2 (by decide)
      · rw [f2] at q3
        obtain ⟨L, W, _⟩ := P.wb
        have := (bI_eq (a := w) (b := w') (by omega) (by have := W.2.2.2.1; have := W.2.2.2.2.2.1; omega)).mp q3
        subst this
        rw [← q5]; unfold wc; rw [ifT hw]
      · rw [f3] at q2; exact absurd q2 (by decide)
      · exfalso
        have : kd = 1 := (bI_eq (a := kd) (b := 1) (by omega) (by decide)).mp (by rw [← b4, h11]; rfl)
        omega
      · rw [f3] at q2; exact absurd q2 (by decide)
    have kx : ∀ (j : Nat) (x : Int32), j < 38 → x = nI j → K_X2_isKey x M = some (if w = j then 1 else 0, M) := fun j x hj hx => by
      unfold K_X2_isKey
      rw [ifT g1, g2, ifT f3, ifT g1, f2, hx]
      by_cases z : w = j
      · rw [ifT z, ifT (by rw [z])]
      · rw [ifF z, ifF (fun q => z ((bI_eq (by omega) (by omega)).mp q))]
    have tx : ∀ (j : Nat) (c : Int64), j < 38 → c = kco j → F_isWord c σ = some (if w = j then 1 else 0, σ) := fun j c hj hc => by
      unfold F_isWord
      rw [ifT h11, f4, hc]
      by_cases z : w = j
      · rw [ifT z, ifT (lg_eq.mpr (by rw [z]))]
      · rw [ifF z, ifF (fun q => z (kco_inj w hw j hj (lg_eq.mp q)))]
    have tkx : ∀ (x : Int32), K_X2_isKey x M = some (0, M) → K_X2_takeKey x M = some (0, M) := fun x h => by
      unfold K_X2_takeKey
      rw [h, ob_some, ifT (rfl : (0 : Int32) = 0)]
    rw [ifT h11]
    have j330 : ∀ tE, J_factor_330 tE (B_opened (G_ands (dT + 1)).2.2.2.1) (B_call (G_ands (dT + 1)).2.2.2.1) σ = some (0, tsI (tsI σ 0 r) 1 p) := fun tE => by
      unfold J_factor_330
      rw [f1, ob_some, ifF (show ¬ (1 : Int32) = 0 from by decide), s2, ob_some]
    obtain ⟨m, hm⟩ : ∃ m : Prop, m = (car C = 0) := ⟨_, rfl⟩
    have pre : w ≠ 30 → w ≠ 26 → w ≠ 27 → ∀ (A : CM → Option ((Nat ⊕ Nat) × CM)), (if mR M 408 90 = 0 then A M else ob (K_X2_isKey 30 M) fun r148 M147 => if r148 = 0 then ob (K_X2_isKey 26 M147) fun r157 M156 => if r157 = 0 then ob (K_X2_isKey 27 M156) fun r166 M165 => if r166 = 0 then A M165 else ob (K_X2_stop M165) fun r170 M169 => if mk M169 r170 = 7 then some (.inr r170, M169) else none else ob (K_X2_stop M156) fun r161 M160 => if mk M160 r161 = 7 then some (.inr r161, M160) else none else ob (K_X2_stop M147) fun r152 M151 => if mk M151 r152 = 7 then some (.inr r152, M151) else none) = A M := fun h1 h2 h3 A => by
      by_cases z : mR M 408 90 = 0
      · rw [ifT z]
      · rw [ifF z, kx 30 _ (by decide) (by decide), ifF h1, ob_some, ifT (rfl : (0 : Int32) = 0), kx 26 _ (by decide) (by decide), ifF h2, ob_some, ifT (rfl : (0 : Int32) = 0), kx 27 _ (by decide) (by decide), ifF h3, ob_some, ifT (rfl : (0 : Int32) = 0)]
    have hmar : (car C = 0 ∧ mR M 408 90 = 0 ∧ tI σ 39 = 0) ∨ (mR M 408 90 ≠ 0 ∧ tI σ 39 ≠ 0) := by
      rcases P.en.2.2.2.2 with q | ⟨_, _, q2, _, _, q5, _⟩
      · exact Or.inl q
      · exact Or.inr ⟨q2, by rw [q5]; decide⟩
    by_cases hw31 : w = 31
    · subst hw31
      rw [pre (by decide) (by decide) (by decide) (KJ_X2_factor_147 (KG_X2_both (dK + 1)).2.2.1 (KB_X2_named (KG_X2_both dK).2.2.1))]
      unfold KJ_X2_factor_147
      rw [tkx 30 (by rw [kx 30 _ (by decide) (by decide), ifF (by decide)]), ob_some, ifT (rfl : (0 : Int32) = 0), kx 26 _ (by decide) (by decide), ifF (by decide), ob_some, ifT (rfl : (0 : Int32) = 0), kx 27 _ (by decide) (by decide), ifF (by decide), ob_some, ifT (rfl : (0 : Int32) = 0), kx 31 _ (by decide) (by decide), ifT (by decide), ob_some, ifF (show ¬ (1 : Int32) = 0 from by decide), tx 31 _ (by decide) (by decide), ifT (by decide), ob_some, ifF (show ¬ (1 : Int32) = 0 from by decide), ob_id]
      exact opened_ok (kt := 10) (many := 1) (fun M σ i' c s n h1 h2 h3 h4 h5 => by
        have h := hx (dK + 1) (dT + 1) (by omega) (by omega) M σ i' c s n h1 h2 h3 h4 h5
        exact h) hb1 P hc hs hn hi f2 (Or.inl ⟨rfl, by decide, by decide, by decide⟩)
    by_cases hw32 : w = 32
    · subst hw32
      rw [pre (by decide) (by decide) (by decide) (KJ_X2_factor_147 (KG_X2_both (dK + 1)).2.2.1 (KB_X2_named (KG_X2_both dK).2.2.1))]
      unfold KJ_X2_factor_147
      rw [tkx 30 (by rw [kx 30 _ (by decide) (by decide), ifF (by decide)]), ob_some, ifT (rfl : (0 : Int32) = 0), kx 26 _ (by decide) (by decide), ifF (by decide), ob_some, ifT (rfl : (0 : Int32) = 0), kx 27 _ (by decide) (by decide), ifF (by decide), ob_some, ifT (rfl : (0 : Int32) = 0), kx 31 _ (by decide) (by decide), ifF (by decide), ob_some, ifT (rfl : (0 : Int32) = 0), kx 32 _ (by decide) (by decide), ifT (by decide), ob_some, ifF (show ¬ (1 : Int32) = 0 from by decide), tx 31 _ (by decide) (by decide), ifF (by decide), ob_some, ifT (rfl : (0 : Int32) = 0), tx 32 _ (by decide) (by decide), ifT (by decide), ob_some, ifF (show ¬ (1 : Int32) = 0 from by decide), ob_id]
      exact opened_ok (kt := 11) (many := 1) (fun M σ i' c s n h1 h2 h3 h4 h5 => by
        have h := hx (dK + 1) (dT + 1) (by omega) (by omega) M σ i' c s n h1 h2 h3 h4 h5
        exact h) hb1 P hc hs hn hi f2 (Or.inl ⟨rfl, by decide, by decide, by decide⟩)
    by_cases hw35 : w = 35
    · subst hw35
      rw [pre (by decide) (by decide) (by decide) (KJ_X2_factor_147 (KG_X2_both (dK + 1)).2.2.1 (KB_X2_named (KG_X2_both dK).2.2.1))]
      unfold KJ_X2_factor_147
      rw [tkx 30 (by rw [kx 30 _ (by decide) (by decide), ifF (by decide)]), ob_some, ifT (rfl : (0 : Int32) = 0), kx 26 _ (by decide) (by decide), ifF (by decide), ob_some, ifT (rfl : (0 : Int32) = 0), kx 27 _ (by decide) (by decide), ifF (by decide), ob_some, ifT (rfl : (0 : Int32) = 0), kx 31 _ (by decide) (by decide), ifF (by decide), ob_some, ifT (rfl : (0 : Int32) = 0), kx 32 _ (by decide) (by decide), ifF (by decide), ob_some, ifT (rfl : (0 : Int32) = 0), kx 35 _ (by decide) (by decide), ifT (by decide), ob_some, ifF (show ¬ (1 : Int32) = 0 from by decide), tx 31 _ (by decide) (by decide), ifF (by decide), ob_some, ifT (rfl : (0 : Int32) = 0), tx 32 _ (by decide) (by decide), ifF (by decide), ob_some, ifT (rfl : (0 : Int32) = 0), tx 35 _ (by decide) (by decide), ifT (by decide), ob_some, ifF (show ¬ (1 : Int32) = 0 from by decide), ob_id]
      exact opened_ok (kt := 12) (many := 1) (fun M σ i' c s n h1 h2 h3 h4 h5 => by
        have h := hx (dK + 1) (dT + 1) (by omega) (by omega) M σ i' c s n h1 h2 h3 h4 h5
        exact h) hb1 P hc hs hn hi f2 (Or.inl ⟨rfl, by decide, by decide, by decide⟩)
    by_cases hw36 : w = 36
    · subst hw36
      rw [pre (by decide) (by decide) (by decide) (KJ_X2_factor_147 (KG_X2_both (dK + 1)).2.2.1 (KB_X2_named (KG_X2_both dK).2.2.1))]
      unfold KJ_X2_factor_147
      rw [tkx 30 (by rw [kx 30 _ (by decide) (by decide), ifF (by decide)]), ob_some, ifT (rfl : (0 : Int32) = 0), kx 26 _ (by decide) (by decide), ifF (by decide), ob_some, ifT (rfl : (0 : Int32) = 0), kx 27 _ (by decide) (by decide), ifF (by decide), ob_some, ifT (rfl : (0 : Int32) = 0), kx 31 _ (by decide) (by decide), ifF (by decide), ob_some, ifT (rfl : (0 : Int32) = 0), kx 32 _ (by decide) (by decide), ifF (by decide), ob_some, ifT (rfl : (0 : Int32) = 0), kx 35 _ (by decide) (by decide), ifF (by decide), ob_some, ifT (rfl : (0 : Int32) = 0), kx 36 _ (by decide) (by decide), ifT (by decide), ob_some, ifF (show ¬ (1 : Int32) = 0 from by decide), tx 31 _ (by decide) (by decide), ifF (by decide), ob_some, ifT (rfl : (0 : Int32) = 0), tx 32 _ (by decide) (by decide), ifF (by decide), ob_some, ifT (rfl : (0 : Int32) = 0), tx 35 _ (by decide) (by decide), ifF (by decide), ob_some, ifT (rfl : (0 : Int32) = 0), tx 36 _ (by decide) (by decide), ifT (by decide), ob_some, ifF (show ¬ (1 : Int32) = 0 from by decide), ob_id]
      exact opened_ok (kt := 13) (many := 1) (fun M σ i' c s n h1 h2 h3 h4 h5 => by
        have h := hx (dK + 1) (dT + 1) (by omega) (by omega) M σ i' c s n h1 h2 h3 h4 h5
        exact h) hb1 P hc hs hn hi f2 (Or.inl ⟨rfl, by decide, by decide, by decide⟩)
    by_cases hw33 : w = 33
    · subst hw33
      rw [pre (by decide) (by decide) (by decide) (KJ_X2_factor_147 (KG_X2_both (dK + 1)).2.2.1 (KB_X2_named (KG_X2_both dK).2.2.1))]
      unfold KJ_X2_factor_147
      rw [tkx 30 (by rw [kx 30 _ (by decide) (by decide), ifF (by decide)]), ob_some, ifT (rfl : (0 : Int32) = 0), kx 26 _ (by decide) (by decide), ifF (by decide), ob_some, ifT (rfl : (0 : Int32) = 0), kx 27 _ (by decide) (by decide), ifF (by decide), ob_some, ifT (rfl : (0 : Int32) = 0), kx 31 _ (by decide) (by decide), ifF (by decide), ob_some, ifT (rfl : (0 : Int32) = 0), kx 32 _ (by decide) (by decide), ifF (by decide), ob_some, ifT (rfl : (0 : Int32) = 0), kx 35 _ (by decide) (by decide), ifF (by decide), ob_some, ifT (rfl : (0 : Int32) = 0), kx 36 _ (by decide) (by decide), ifF (by decide), ob_some, ifT (rfl : (0 : Int32) = 0), kx 33 _ (by decide) (by decide), ifT (by decide), ob_some, ifF (show ¬ (1 : Int32) = 0 from by decide), tx 31 _ (by decide) (by decide), ifF (by decide), ob_some, ifT (rfl : (0 : Int32) = 0), tx 32 _ (by decide) (by decide), ifF (by decide), ob_some, ifT (rfl : (0 : Int32) = 0), tx 35 _ (by decide) (by decide), ifF (by decide), ob_some, ifT (rfl : (0 : Int32) = 0), tx 36 _ (by decide) (by decide), ifF (by decide), ob_some, ifT (rfl : (0 : Int32) = 0), tx 33 _ (by decide) (by decide), ifT (by decide), ob_some, ifF (show ¬ (1 : Int32) = 0 from by decide), ob_id]
      exact opened_ok (kt := 14) (many := 2) (fun M σ i' c s n h1 h2 h3 h4 h5 => by
        have h := hx (dK + 1) (dT + 1) (by omega) (by omega) M σ i' c s n h1 h2 h3 h4 h5
        exact h) hb1 P hc hs hn hi f2 (Or.inr ⟨rfl, by decide, by decide⟩)
    by_cases hw34 : w = 34
    · subst hw34
      rw [pre (by decide) (by decide) (by decide) (KJ_X2_factor_147 (KG_X2_both (dK + 1)).2.2.1 (KB_X2_named (KG_X2_both dK).2.2.1))]
      unfold KJ_X2_factor_147
      rw [tkx 30 (by rw [kx 30 _ (by decide) (by decide), ifF (by decide)]), ob_some, ifT (rfl : (0 : Int32) = 0), kx 26 _ (by decide) (by decide), ifF (by decide), ob_some, ifT (rfl : (0 : Int32) = 0), kx 27 _ (by decide) (by decide), ifF (by decide), ob_some, ifT (rfl : (0 : Int32) = 0), kx 31 _ (by decide) (by decide), ifF (by decide), ob_some, ifT (rfl : (0 : Int32) = 0), kx 32 _ (by decide) (by decide), ifF (by decide), ob_some, ifT (rfl : (0 : Int32) = 0), kx 35 _ (by decide) (by decide), ifF (by decide), ob_some, ifT (rfl : (0 : Int32) = 0), kx 36 _ (by decide) (by decide), ifF (by decide), ob_some, ifT (rfl : (0 : Int32) = 0), kx 33 _ (by decide) (by decide), ifF (by decide), ob_some, ifT (rfl : (0 : Int32) = 0), kx 34 _ (by decide) (by decide), ifT (by decide), ob_some, ifF (show ¬ (1 : Int32) = 0 from by decide), tx 31 _ (by decide) (by decide), ifF (by decide), ob_some, ifT (rfl : (0 : Int32) = 0), tx 32 _ (by decide) (by decide), ifF (by decide), ob_some, ifT (rfl : (0 : Int32) = 0), tx 35 _ (by decide) (by decide), ifF (by decide), ob_some, ifT (rfl : (0 : Int32) = 0), tx 36 _ (by decide) (by decide), ifF (by decide), ob_some, ifT (rfl : (0 : Int32) = 0), tx 33 _ (by decide) (by decide), ifF (by decide), ob_some, ifT (rfl : (0 : Int32) = 0), tx 34 _ (by decide) (by decide), ifT (by decide), ob_some, ifF (show ¬ (1 : Int32) = 0 from by decide), ob_id]
      exact opened_ok (kt := 15) (many := 2) (fun M σ i' c s n h1 h2 h3 h4 h5 => by
        have h := hx (dK + 1) (dT + 1) (by omega) (by omega) M σ i' c s n h1 h2 h3 h4 h5
        exact h) hb1 P hc hs hn hi f2 (Or.inr ⟨rfl, by decide, by decide⟩)
    by_cases hw30 : w = 30
    · subst hw30
      rcases hmar with ⟨m1, m2, m3⟩ | ⟨m2, m3⟩
      · have cap := (P.cap (k := 8) (by omega))
        obtain ⟨σ1, z1, P1, E1⟩ := z_step P hi
        have cap1 := P1.cap (k := 8) (by omega)
        have F5 : Fz none_ (msI M 405 90 (nI (i + 1))) (msI (mnew (msI M 405 90 (nI (i + 1))) 8 0 8) 1400 (mn M) 30) := Fz.rf.mnew.msI (fun z => absurd z (Nat.lt_irrefl _))
        have e1 : mn (msI M 405 90 (nI (i + 1))) = mn M := rfl
        have P2 := P1.al F5 (c' := c) (s' := s) (by show mn M + 1 + c ≤ _; omega) (by show ms M + 8 + s ≤ ms M + _; omega)
        have E2 := Es.al (σ := σ1) F5 P1.n167
        obtain ⟨σ7, q1, q2, q3, q4, q5, ⟨q6, q7, q8, q9⟩, P7, E7⟩ := y_node (n := n + 3) P2 1 0 0 0
        have tk30 : K_X2_takeKey 30 M = some (1, msI M 405 90 (nI (i + 1))) := by
          unfold K_X2_takeKey
          rw [kx 30 _ (by decide) (by decide), ifT (by decide), ob_some, ifF (show ¬ (1 : Int32) = 0 from by decide), nm_eq, P.i5, nI_addL]
        rw [ifT m2]
        unfold KJ_X2_factor_147
        rw [tk30, ob_some, ifF (show ¬ (1 : Int32) = 0 from by decide), ifT cap1, nm_eq, nm_eq, ifT (by omega), k_ast cap1 (by omega) 30, ob_some, tx 31 _ (by decide) (by decide), ifF (by decide), ob_some, ifT (rfl : (0 : Int32) = 0), tx 32 _ (by decide) (by decide), ifF (by decide), ob_some, ifT (rfl : (0 : Int32) = 0), tx 35 _ (by decide) (by decide), ifF (by decide), ob_some, ifT (rfl : (0 : Int32) = 0), tx 36 _ (by decide) (by decide), ifF (by decide), ob_some, ifT (rfl : (0 : Int32) = 0), tx 33 _ (by decide) (by decide), ifF (by decide), ob_some, ifT (rfl : (0 : Int32) = 0), tx 34 _ (by decide) (by decide), ifF (by decide), ob_some, ifT (rfl : (0 : Int32) = 0), ifT m3, tx 30 _ (by decide) (by decide), ifT (by decide), ob_some, ifF (show ¬ (1 : Int32) = 0 from by decide), z1, ob_some, q1, ob_some]
        refine Or.inl ⟨mn M, _, tN σ1, σ7, i + 1, rfl, rfl, P7.wk (by omega) (by omega) (by omega), by omega, (E1.tr E2).tr E7, 1, ⟨⟨Nat.le_refl _, by show mn M < mn M + 1; omega⟩, ?_, q5, by omega⟩, Or.inr (Or.inr (Or.inr (Or.inr (Or.inl ⟨rfl, m1, ?_, q6⟩))))⟩
        · show mk (mnew (msI M 405 90 (nI (i + 1))) 8 0 8) (mn M) = 8
          rw [mk_mnew, ifT e1.symm]
        · show mI (msI (mnew (msI M 405 90 (nI (i + 1))) 8 0 8) 1400 (mn M) 30) 1400 (mn M) = 30
          rw [mI_msI, ifT ⟨rfl, rfl⟩]
      · rw [ifF m2, kx 30 _ (by decide) (by decide), ifT (by decide), ob_some, ifF (show ¬ (1 : Int32) = 0 from by decide), s1, ob_some, ifT (wM_k M r p), tx 31 _ (by decide) (by decide), ifF (by decide), ob_some, ifT (rfl : (0 : Int32) = 0), tx 32 _ (by decide) (by decide), ifF (by decide), ob_some, ifT (rfl : (0 : Int32) = 0), tx 35 _ (by decide) (by decide), ifF (by decide), ob_some, ifT (rfl : (0 : Int32) = 0), tx 36 _ (by decide) (by decide), ifF (by decide), ob_some, ifT (rfl : (0 : Int32) = 0), tx 33 _ (by decide) (by decide), ifF (by decide), ob_some, ifT (rfl : (0 : Int32) = 0), tx 34 _ (by decide) (by decide), ifF (by decide), ob_some, ifT (rfl : (0 : Int32) = 0), ifF m3]
        unfold J_factor_227
        rw [ifF m3, j330]
        exact stp 0
    by_cases hw26 : w = 26
    · subst hw26
      rcases hmar with ⟨m1, m2, m3⟩ | ⟨m2, m3⟩
      · rw [ifT m2]
        unfold KJ_X2_factor_147
        rw [tkx 30 (by rw [kx 30 _ (by decide) (by decide), ifF (by decide)]), ob_some, ifT (rfl : (0 : Int32) = 0), kx 26 _ (by decide) (by decide), ifT (by decide), ob_some, ifF (show ¬ (1 : Int32) = 0 from by decide), tx 31 _ (by decide) (by decide), ifF (by decide), ob_some, ifT (rfl : (0 : Int32) = 0), tx 32 _ (by decide) (by decide), ifF (by decide), ob_some, ifT (rfl : (0 : Int32) = 0), tx 35 _ (by decide) (by decide), ifF (by decide), ob_some, ifT (rfl : (0 : Int32) = 0), tx 36 _ (by decide) (by decide), ifF (by decide), ob_some, ifT (rfl : (0 : Int32) = 0), tx 33 _ (by decide) (by decide), ifF (by decide), ob_some, ifT (rfl : (0 : Int32) = 0), tx 34 _ (by decide) (by decide), ifF (by decide), ob_some, ifT (rfl : (0 : Int32) = 0), ifT m3, tx 30 _ (by decide) (by decide), ifF (by decide), ob_some, ifT (rfl : (0 : Int32) = 0)]
        unfold J_factor_227
        rw [ifT m3, tx 26 _ (by decide) (by decide), ifT (by decide), ob_some, ifF (show ¬ (1 : Int32) = 0 from by decide)]
        unfold J_factor_254
        rw [tx 26 _ (by decide) (by decide), ifT (by decide), ob_some, ifF (show ¬ (1 : Int32) = 0 from by decide)]
        exact der_ok m1 P hc hs hn hi f2 (by decide)
      · rw [ifF m2, kx 30 _ (by decide) (by decide), ifF (by decide), ob_some, ifT (rfl : (0 : Int32) = 0), kx 26 _ (by decide) (by decide), ifT (by decide), ob_some, ifF (show ¬ (1 : Int32) = 0 from by decide), s1, ob_some, ifT (wM_k M r p), tx 31 _ (by decide) (by decide), ifF (by decide), ob_some, ifT (rfl : (0 : Int32) = 0), tx 32 _ (by decide) (by decide), ifF (by decide), ob_some, ifT (rfl : (0 : Int32) = 0), tx 35 _ (by decide) (by decide), ifF (by decide), ob_some, ifT (rfl : (0 : Int32) = 0), tx 36 _ (by decide) (by decide), ifF (by decide), ob_some, ifT (rfl : (0 : Int32) = 0), tx 33 _ (by decide) (by decide), ifF (by decide), ob_some, ifT (rfl : (0 : Int32) = 0), tx 34 _ (by decide) (by decide), ifF (by decide), ob_some, ifT (rfl : (0 : Int32) = 0), ifF m3]
        unfold J_factor_227
        rw [ifF m3, j330]
        exact stp 0
    by_cases hw27 : w = 27
    · subst hw27
      rcases hmar with ⟨m1, m2, m3⟩ | ⟨m2, m3⟩
      · rw [ifT m2]
        unfold KJ_X2_factor_147
        rw [tkx 30 (by rw [kx 30 _ (by decide) (by decide), ifF (by decide)]), ob_some, ifT (rfl : (0 : Int32) = 0), kx 26 _ (by decide) (by decide), ifF (by decide), ob_some, ifT (rfl : (0 : Int32) = 0), kx 27 _ (by decide) (by decide), ifT (by decide), ob_some, ifF (show ¬ (1 : Int32) = 0 from by decide), tx 31 _ (by decide) (by decide), ifF (by decide), ob_some, ifT (rfl : (0 : Int32) = 0), tx 32 _ (by decide) (by decide), ifF (by decide), ob_some, ifT (rfl : (0 : Int32) = 0), tx 35 _ (by decide) (by decide), ifF (by decide), ob_some, ifT (rfl : (0 : Int32) = 0), tx 36 _ (by decide) (by decide), ifF (by decide), ob_some, ifT (rfl : (0 : Int32) = 0), tx 33 _ (by decide) (by decide), ifF (by decide), ob_some, ifT (rfl : (0 : Int32) = 0), tx 34 _ (by decide) (by decide), ifF (by decide), ob_some, ifT (rfl : (0 : Int32) = 0), ifT m3, tx 30 _ (by decide) (by decide), ifF (by decide), ob_some, ifT (rfl : (0 : Int32) = 0)]
        unfold J_factor_227
        rw [ifT m3, tx 26 _ (by decide) (by decide), ifF (by decide), ob_some, ifT (rfl : (0 : Int32) = 0), tx 27 _ (by decide) (by decide), ifT (by decide), ob_some, ifF (show ¬ (1 : Int32) = 0 from by decide)]
        unfold J_factor_254
        rw [tx 26 _ (by decide) (by decide), ifF (by decide), ob_some, ifT (rfl : (0 : Int32) = 0)]
        exact der_ok m1 P hc hs hn hi f2 (by decide)
      · rw [ifF m2, kx 30 _ (by decide) (by decide), ifF (by decide), ob_some, ifT (rfl : (0 : Int32) = 0), kx 26 _ (by decide) (by decide), ifF (by decide), ob_some, ifT (rfl : (0 : Int32) = 0), kx 27 _ (by decide) (by decide), ifT (by decide), ob_some, ifF (show ¬ (1 : Int32) = 0 from by decide), s1, ob_some, ifT (wM_k M r p), tx 31 _ (by decide) (by decide), ifF (by decide), ob_some, ifT (rfl : (0 : Int32) = 0), tx 32 _ (by decide) (by decide), ifF (by decide), ob_some, ifT (rfl : (0 : Int32) = 0), tx 35 _ (by decide) (by decide), ifF (by decide), ob_some, ifT (rfl : (0 : Int32) = 0), tx 36 _ (by decide) (by decide), ifF (by decide), ob_some, ifT (rfl : (0 : Int32) = 0), tx 33 _ (by decide) (by decide), ifF (by decide), ob_some, ifT (rfl : (0 : Int32) = 0), tx 34 _ (by decide) (by decide), ifF (by decide), ob_some, ifT (rfl : (0 : Int32) = 0), ifF m3]
        unfold J_factor_227
        rw [ifF m3, j330]
        exact stp 0
    rw [pre hw30 hw26 hw27 (KJ_X2_factor_147 (KG_X2_both (dK + 1)).2.2.1 (KB_X2_named (KG_X2_both dK).2.2.1))]
    unfold KJ_X2_factor_147
    rw [tkx 30 (by rw [kx 30 _ (by decide) (by decide), ifF hw30]), ob_some, ifT (rfl : (0 : Int32) = 0), kx 26 _ (by decide) (by decide), ifF hw26, ob_some, ifT (rfl : (0 : Int32) = 0), kx 27 _ (by decide) (by decide), ifF hw27, ob_some, ifT (rfl : (0 : Int32) = 0), kx 31 _ (by decide) (by decide), ifF hw31, ob_some, ifT (rfl : (0 : Int32) = 0), kx 32 _ (by decide) (by decide), ifF hw32, ob_some, ifT (rfl : (0 : Int32) = 0), kx 35 _ (by decide) (by decide), ifF hw35, ob_some, ifT (rfl : (0 : Int32) = 0), kx 36 _ (by decide) (by decide), ifF hw36, ob_some, ifT (rfl : (0 : Int32) = 0), kx 33 _ (by decide) (by decide), ifF hw33, ob_some, ifT (rfl : (0 : Int32) = 0), kx 34 _ (by decide) (by decide), ifF hw34, ob_some, ifT (rfl : (0 : Int32) = 0), s1, ob_some, ifT (wM_k M r p), tx 31 _ (by decide) (by decide), ifF hw31, ob_some, ifT (rfl : (0 : Int32) = 0), tx 32 _ (by decide) (by decide), ifF hw32, ob_some, ifT (rfl : (0 : Int32) = 0), tx 35 _ (by decide) (by decide), ifF hw35, ob_some, ifT (rfl : (0 : Int32) = 0), tx 36 _ (by decide) (by decide), ifF hw36, ob_some, ifT (rfl : (0 : Int32) = 0), tx 33 _ (by decide) (by decide), ifF hw33, ob_some, ifT (rfl : (0 : Int32) = 0), tx 34 _ (by decide) (by decide), ifF hw34, ob_some, ifT (rfl : (0 : Int32) = 0)]
    rcases hmar with ⟨m1, m2, m3⟩ | ⟨m2, m3⟩
    · rw [ifT m3, tx 30 _ (by decide) (by decide), ifF hw30, ob_some, ifT (rfl : (0 : Int32) = 0)]
      unfold J_factor_227
      rw [ifT m3, tx 26 _ (by decide) (by decide), ifF hw26, ob_some, ifT (rfl : (0 : Int32) = 0), tx 27 _ (by decide) (by decide), ifF hw27, ob_some, ifT (rfl : (0 : Int32) = 0), j330]
      exact stp 0
    · rw [ifF m3]
      unfold J_factor_227
      rw [ifF m3, j330]
      exact stp 0
  · -- no word, no sign that may stand here
    have kz : ∀ (j : Nat) (x : Int32), j < 38 → x = nI j → K_X2_isKey x M = some (0, M) := fun j x hj hx => by
      rcases y_key P.px (j := j) (x := x) (c := kco j) hx hj rfl with ⟨_, _, _, q, _⟩ | ⟨q, _⟩
      · exact absurd q h11
      · exact q
    have tk : K_X2_takeKey 30 M = some (0, M) := by
      unfold K_X2_takeKey
      rw [kz 30 _ (by decide) (by decide), ob_some, ifT (rfl : (0 : Int32) = 0)]
    have k147 : KJ_X2_factor_147 (KG_X2_both (dK + 1)).2.2.1 (KB_X2_named (KG_X2_both dK).2.2.1) M = some (.inr (mn M), wM M r p) := by
      unfold KJ_X2_factor_147
      rw [tk, ob_some, ifT (rfl : (0 : Int32) = 0), kz 26 _ (by decide) (by decide), ob_some, ifT (rfl : (0 : Int32) = 0), kz 27 _ (by decide) (by decide), ob_some, ifT (rfl : (0 : Int32) = 0), kz 31 _ (by decide) (by decide), ob_some, ifT (rfl : (0 : Int32) = 0), kz 32 _ (by decide) (by decide), ob_some, ifT (rfl : (0 : Int32) = 0), kz 35 _ (by decide) (by decide), ob_some, ifT (rfl : (0 : Int32) = 0), kz 36 _ (by decide) (by decide), ob_some, ifT (rfl : (0 : Int32) = 0), kz 33 _ (by decide) (by decide), ob_some, ifT (rfl : (0 : Int32) = 0), kz 34 _ (by decide) (by decide), ob_some, ifT (rfl : (0 : Int32) = 0), s1, ob_some, ifT (wM_k M r p)]
    rw [ifF h11, s2, ob_some]
    by_cases z : mR M 408 90 = 0
    · rw [ifT z, k147]; exact stp 0
    · rw [ifF z, kz 30 _ (by decide) (by decide), ob_some, ifT (rfl : (0 : Int32) = 0), kz 26 _ (by decide) (by decide), ob_some, ifT (rfl : (0 : Int32) = 0), kz 27 _ (by decide) (by decide), ob_some, ifT (rfl : (0 : Int32) = 0), k147]; exact stp 0
end FACTORS
