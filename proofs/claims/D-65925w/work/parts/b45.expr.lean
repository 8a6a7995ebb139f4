/-! Layer B: expression -/
set_option maxRecDepth 100000
section EXPRESSION
variable {C : PC} {M : CM} {σ : TS} {i dep c s n : Nat}
theorem expr_ok (dK dT : Nat) (hsum : Ok C M σ i dep c s n 0 ((KG_X2_both dK).2.2.2.2.2.1 M) ((G_ands (dT + 3)).2.2.2.2.2.2.1 σ))
    (hcond : car C = 0 → ∀ (M : CM) (σ : TS) (i' c s n : Nat), i < i' → 64 ≤ c → 4096 ≤ s → 16 ≤ n → Pe C M σ i' (dep + 1) c s n → Ok C M σ i' (dep + 1) c s n 1 ((KG_X2_both dK).2.1 M) ((G_ands (dT + 3)).2.2.1 σ))
    (hexpr : ∀ (M : CM) (σ : TS) (i' c s n : Nat), i < i' → 64 ≤ c → 4096 ≤ s → 16 ≤ n → Pe C M σ i' (dep + 1) c s n → Ok C M σ i' (dep + 1) c s n 0 ((KG_X2_both dK).2.2.1 M) ((G_ands (dT + 3)).2.2.2.1 σ))
    (P : Pe C M σ i dep c s n) (hc : 64 ≤ c) (hs : 4096 ≤ s) (hn : 16 ≤ n) : Ok C M σ i dep c s n 0 ((KG_X2_both (dK + 1)).2.2.1 M) ((G_ands (dT + 4)).2.2.2.1 σ) := by
  show Ok C M σ i dep c s n 0 (KB_X2_expression (KG_X2_both dK).2.2.2.2.2.1 (KG_X2_both dK).2.1 (KG_X2_both dK).2.2.1 M) (B_expression (G_ands (dT + 3)).2.2.1 (G_ands (dT + 3)).2.2.2.1 (G_ands (dT + 3)).2.2.2.2.2.2.1 σ)
  have h167 := P.n167
  obtain ⟨g1, g2⟩ := P.px.in1
  unfold KB_X2_expression B_expression
  rw [ifT g1, nm_eq, g2, t_isBad0 P.g0, ob_some, ifT (rfl : (0 : Int32) = 0)]
  -- no if stands here
  have noif : K_X2_takeKey 21 M = some (0, M) → F_isWord 26982 σ = some (0, σ) → Ok C M σ i dep c s n 0 (KJ_X2_expression_31 (KG_X2_both dK).2.2.2.2.2.1 (KG_X2_both dK).2.1 (KG_X2_both dK).2.2.1 (mA M 94 i) M) (ob (F_isWord 26982 σ) fun r6 s5 => if r6 = 0 then ob ((G_ands (dT + 3)).2.2.2.2.2.2.1 s5) fun r10 s9 => some (r10, s9) else if tI s5 39 = 0 then ob (F_deeper s5) fun _ s18 => ob (F_next s18) fun _ s22 => ob ((G_ands (dT + 3)).2.2.1 s22) fun r27 s26 => ob (F_passWord 1952998766 s26) fun _ s30 => ob ((G_ands (dT + 3)).2.2.2.1 s30) fun r35 s34 => ob (F_passWord 1701606245 s34) fun _ s38 => ob ((G_ands (dT + 3)).2.2.2.1 s38) fun r43 s42 => nm (tsI s42 20 ((tI s42 20) - 1)) fun s46 => ob (F_node 16 r27 r35 r43 s46) fun r48 s47 => some (r48, s47) else ob ((G_ands (dT + 3)).2.2.2.2.2.2.1 s5) fun r15 s14 => some (r15, s14)) := by
    intro e1 e2
    unfold KJ_X2_expression_31
    rw [e1, ob_some, ifT (rfl : (0 : Int32) = 0), e2, ob_some, ifT (rfl : (0 : Int32) = 0)]
    rcases hsum with ⟨a, M1, x, σ1, i1, a1, a2, a3⟩ | ⟨w, M1, y, σ1, a1, a2, a3⟩
    · rw [a1, obS_inl, a2, ob_some]; exact Or.inl ⟨a, M1, x, σ1, i1, rfl, rfl, a3⟩
    · rw [a1, obS_inr, a2, ob_some]; exact Or.inr ⟨w, M1, y, σ1, rfl, rfl, a3⟩
  rcases P.en.2.2.2.2 with ⟨m1, m2, m3⟩ | ⟨m1, m2, m3, m4, m5, m6, _⟩
  · rw [ifT m2]
    rcases z_takeKey P (j := 21) (x := 21) (y := 26982) rfl (by decide) (by decide) with ⟨σ0, u1, u2, u3, u4, u5, u6⟩ | ⟨u1, u2⟩
    · unfold KJ_X2_expression_31
      rw [u1, ob_some, ifF (show ¬ (1 : Int32) = 0 from by decide), u2, ob_some, ifF (show ¬ (1 : Int32) = 0 from by decide), ifT m3]
      rcases z_deepNext P (by omega) (by omega) u6 with ⟨M1, s1, σ1, d1, d2, d3, P1, E1, hd, hm1⟩ | ⟨w, M1, σ1, d1, d2, fb⟩
      · rw [d1, obS_inl, d2, ob_some, d3, ob_some]
        rcases hcond m1 M1 σ1 (i + 1) _ _ _ (by omega) (by omega) (by omega) (by omega) P1 with ⟨a2, M2, x2, σ2, i2, b1, b2, P2, b4, E2, R2⟩ | ⟨w, M2, y, σ2, b1, b2, fb⟩
        · rw [b1, obS_inl, b2, ob_some]
          have E02 := E1.tr E2
          rcases z_passKey P2 (by omega) (by omega) (j := 17) (x := 17) (y := 1952998766) rfl (by decide) (by decide) with ⟨_, _, σ3, c1, c2, P3, E3, c5, _⟩ | ⟨w, M3, y, σ3, c1, c2, fb⟩
          · rw [c1, obS_inl, c2, ob_some]
            have E03 := E02.tr E3
            rcases hexpr _ σ3 (i2 + 1) _ _ _ (by omega) (by omega) (by omega) (by omega) P3 with ⟨a4, M4, x4, σ4, i4, e1, e2, P4, e4, E4, R4⟩ | ⟨w, M4, y, σ4, e1, e2, fb⟩
            · rw [e1, obS_inl, e2, ob_some]
              have E04 := E03.tr E4
              rcases z_passKey P4 (by omega) (by omega) (j := 22) (x := 22) (y := 1701606245) rfl (by decide) (by decide) with ⟨_, _, σ5, f1, f2, P5, E5, f5, _⟩ | ⟨w, M5, y, σ5, f1, f2, fb⟩
              · rw [f1, obS_inl, f2, ob_some]
                have E05 := E04.tr E5
                rcases hexpr _ σ5 (i4 + 1) _ _ _ (by omega) (by omega) (by omega) (by omega) P5 with ⟨a6, M6, x6, σ6, i6, h1, h2, P6, h4, E6, R6⟩ | ⟨w, M6, y, σ6, h1, h2, fb⟩
                · rw [h1, obS_inl, h2, ob_some, nm_eq, nm_eq]
                  have e406 : mI M6 406 90 - 1 = nI dep := by rw [P6.2.2.1.1, show (1 : Int32) = nI 1 from rfl, nI_sub (by omega), show dep + 1 - 1 = dep by omega]
                  have e20 : tI σ6 20 - 1 = nI dep := by rw [P6.2.2.1.2.1, show (1 : Int32) = nI 1 from rfl, nI_sub (by omega), show dep + 1 - 1 = dep by omega]
                  rw [e406, e20]
                  obtain ⟨P7, E7⟩ := P6.dp (d := dep) (by omega)
                  have E07 := (E05.tr E6).tr E7
                  have cap := P7.cap (k := 8) (by omega)
                  have F8 : Fz none_ (msI M6 406 90 (nI dep)) (mnew (msI M6 406 90 (nI dep)) 8 0 8) := Fz.rf.mnew
                  have P8 := P7.al F8 (c' := c) (s' := s) (by rw [mn_mnew]; omega) (by rw [ms_mnew]; omega)
                  have hk8 : mk (mnew (msI M6 406 90 (nI dep)) 8 0 8) (mn (msI M6 406 90 (nI dep))) = 8 := by rw [mk_mnew, ifT rfl]
                  obtain ⟨σ9, k1, k2, k3, k4, ⟨k5, k6, k7, k8⟩, ⟨k9, k10, k11, k12⟩, -⟩ := mk_node P7 (Es.al F8 P7.n167) (P8.wk (c' := c) (s' := s) (n' := n + 1) (by omega) (by omega) (by omega)) (v := mn (msI M6 406 90 (nI dep))) ⟨Nat.le_refl _, by rw [mn_mnew]; omega⟩ hk8 21 a2 a4 a6 16 (nI x2) (nI x4) (nI x6)
                  obtain ⟨j1, j2, j3, j4, j5, j6, j7, j8⟩ := iM_ok (mnew (msI M6 406 90 (nI dep)) 8 0 8) (mn (msI M6 406 90 (nI dep))) 21 a2 a4 a6
                  rw [ifT cap, nm_eq, nm_eq, ifT (by have := P7.n167; omega), k1, ob_some, k2, ob_some]
                  have E9 := E7.tr k4
                  have n02 := E1.1.1
                  refine Or.inl ⟨_, _, _, σ9, i6, rfl, rfl, k3, by omega, E07.tr k4, Rs.n3 k3 m1 ⟨⟨E07.1.1, by rw [j2, mn_mnew]; omega⟩, by rw [j4]; exact hk8, k8, by omega⟩ ⟨j5, k9⟩ k10 ?_ k11 ?_ k12 ?_⟩
                  · rw [j6]; exact ((R2.dn P2 (M0 := M) n02).mv P2 h167 (((E3.tr E4).tr E5).tr (E6.tr E9)))
                  · rw [j7]; exact ((R4.dn P4 (M0 := M) E03.1.1).mv P4 h167 ((E5.tr E6).tr E9))
                  · rw [j8]; exact ((R6.dn P6 (M0 := M) E05.1.1).mv P6 h167 E9)
                · rw [h1, obS_inr, h2, ob_some]
                  exact Or.inr (FB.ko (fb.tr E05) (BW.nm20 fb.bd fun s hs => BW.bo (bw_node hs _ _ _ _) fun r s hs => BW.sm hs))
              · rw [f1, obS_inr, f2, ob_some]
                exact Or.inr (FB.ko (fb.tr E04) (BW.bo (bw_expression fb.bd _) fun r s hs => BW.nm20 hs fun s hs => BW.bo (bw_node hs _ _ _ _) fun r s hs => BW.sm hs))
            · rw [e1, obS_inr, e2, ob_some]
              exact Or.inr (FB.ko (fb.tr E03) (BW.bo (bw_passWord fb.bd _) fun r s hs => BW.bo (bw_expression hs _) fun r s hs => BW.nm20 hs fun s hs => BW.bo (bw_node hs _ _ _ _) fun r s hs => BW.sm hs))
          · rw [c1, obS_inr, c2, ob_some]
            exact Or.inr (FB.ko (fb.tr E02) (BW.bo (bw_expression fb.bd _) fun r s hs => BW.bo (bw_passWord hs _) fun r s hs => BW.bo (bw_expression hs _) fun r s hs => BW.nm20 hs fun s hs => BW.bo (bw_node hs _ _ _ _) fun r s hs => BW.sm hs))
        · rw [b1, obS_inr, b2, ob_some]
          exact Or.inr (FB.ko (fb.tr E1) (BW.bo (bw_passWord fb.bd _) fun r s hs => BW.bo (bw_expression hs _) fun r s hs => BW.bo (bw_passWord hs _) fun r s hs => BW.bo (bw_expression hs _) fun r s hs => BW.nm20 hs fun s hs => BW.bo (bw_node hs _ _ _ _) fun r s hs => BW.sm hs))
      · rw [d1, obS_inr, d2, ob_some]
        exact Or.inr (FB.ko fb (BW.bo (bw_next fb.bd) fun r s hs => BW.bo (bw_condition hs _) fun r s hs => BW.bo (bw_passWord hs _) fun r s hs => BW.bo (bw_expression hs _) fun r s hs => BW.bo (bw_passWord hs _) fun r s hs => BW.bo (bw_expression hs _) fun r s hs => BW.nm20 hs fun s hs => BW.bo (bw_node hs _ _ _ _) fun r s hs => BW.sm hs))
    · exact noif u1 u2
  · rw [ifF m3]
    rcases y_key P.px (j := 21) (x := 21) (c := 26982) rfl (by decide) (by decide) with ⟨e1, e2, e3, e4, e5⟩ | ⟨e1, e2, e3⟩
    · have h16 : tL σ 16 = kco 21 := by
        unfold F_isWord at e2
        rw [ifT e4] at e2
        by_cases z : lg_cmp (tL σ 16) 26982 = 0
        · rw [lg_eq.mp z]; decide
        · rw [ifF z] at e2; injection e2 with e2; injection e2 with e2 _; exact absurd e2 (by decide)
      obtain ⟨r, p, hr, s1, s2⟩ := y_stop P.px (P.cap (by omega))
      have h39 : ¬ tI σ 39 = 0 := by rw [m6]; decide
      obtain ⟨y, hsk⟩ := sum_key P h39 e4 h16 (r := r) (p := p) (by rcases hr with rfl | rfl <;> decide) s2 dT
      rw [e1, ob_some, ifF (show ¬ (1 : Int32) = 0 from by decide), s1, ob_some, ifT (wM_k M r p), e2, ob_some, ifF (show ¬ (1 : Int32) = 0 from by decide), ifF h39, hsk, ob_some]
      exact Or.inr ⟨_, _, y, _, rfl, rfl, P.fb (by omega) (by omega) (by rcases hr with rfl | rfl <;> decide)⟩
    · rw [e1, ob_some, ifT (rfl : (0 : Int32) = 0)]
      refine noif ?_ e2
      unfold K_X2_takeKey
      rw [e1, ob_some, ifT (rfl : (0 : Int32) = 0)]
end EXPRESSION
