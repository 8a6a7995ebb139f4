/-! Layer B: expressions: nodes out of their parts -/
set_option maxRecDepth 100000
section NODES
variable {C : PC} {M M' Mb M0 M2 : CM} {σ σ' σb : TS} {i ib dep depb c s n so c' s' cb' sb' nb' a x r y v N : Nat}
theorem Pe.tN9 (P : Pe C M σ i dep c s n) : tN σ ≤ 9000 ∧ tQ σ ≤ 7000 := by
  obtain ⟨N, Q, n1, n2, n3, n4, n5, n6, n7, n8⟩ := P.nodes
  omega
/-- what was made behind v stays when v is written -/
theorem Rs.pv (h : Rs C M2 M σ so r y) (P : Pe C M σ i dep c s n) (h2 : 167 ≤ mn M2) (F : Fz (fun o => o = v) M M') (hv : v < mn M2) (hw : ∀ w, wc M' w = wc M w) (z : Tz σ σ') (f : Ft sF_txt σ σ') : Rs C M2 M' σ' so r y := by
  obtain ⟨d, h⟩ := h
  have hn := F.1
  refine ⟨d, AR.mv (N := tN σ) (Q := tQ σ) ⟨⟨F.1, fun o ho => F.k ho⟩, fun o ho => F.so ho.2 (by omega), fun w _ => hw w, z.2.1, z.2.2.1, z.2.2.2, fun k => (f 42 rfl).2.2.1 k⟩ (fun o q => ⟨q.1, by omega⟩) z.1.1 z.1.2 ⟨Nat.le_refl _, P.nf12, fun _ _ => rfl⟩ d d so r y (Nat.le_refl _) h⟩
/-- a node of two parts -/
theorem Rs.n2 (P : Pe C M σ i dep c s n) (hv : (mn M0 ≤ v ∧ v < mn M) ∧ mk M v = 8 ∧ Lo C N ∧ N < tN σ) (hk : so = 0 ∧ (mI M 1400 v, tA σ 24 N) ∈ biL ∨ so = 1 ∧ (mI M 1400 v, tA σ 24 N) ∈ coL) (h4 : mR M 1404 v = 0) (hx : tA σ 25 N = nI x) (hl : Rs C M0 M σ so (mR M 1402 v) x) (hy : tA σ 26 N = nI y) (hr : Rs C M0 M σ so (mR M 1403 v) y) : Rs C M0 M σ so v N := by
  obtain ⟨d1, u1⟩ := hl.up P
  obtain ⟨d2, u2⟩ := hr.up P
  have b1 := hl.b
  have b2 := hr.b
  have t9 := P.tN9
  refine ⟨max d1 d2 + 1, hv, ?_⟩
  rcases hk with ⟨rfl, hk⟩ | ⟨rfl, hk⟩
  · exact Or.inr (Or.inr (Or.inr (Or.inr (Or.inr (Or.inr (Or.inr (Or.inr (Or.inl ⟨rfl, hk, h4, ⟨x, hx, by omega, u1 _ (by omega)⟩, y, hy, by omega, u2 _ (by omega)⟩))))))))
  · exact Or.inr (Or.inr (Or.inr (Or.inr (Or.inr (Or.inr (Or.inr (Or.inr (Or.inr (Or.inr (Or.inr (Or.inr (Or.inl ⟨rfl, hk, h4, ⟨x, hx, by omega, u1 _ (by omega)⟩, y, hy, by omega, u2 _ (by omega)⟩))))))))))))
/-- a node of one part -/
theorem Rs.n1 (P : Pe C M σ i dep c s n) (hv : (mn M0 ≤ v ∧ v < mn M) ∧ mk M v = 8 ∧ Lo C N ∧ N < tN σ) (hk : so = 0 ∧ (mI M 1400 v, tA σ 24 N) ∈ unL ∨ so = 1 ∧ mI M 1400 v = 25 ∧ tA σ 24 N = 23) (h3 : mR M 1403 v = 0) (h4 : mR M 1404 v = 0) (hx : tA σ 25 N = nI x) (hl : Rs C M0 M σ so (mR M 1402 v) x) : Rs C M0 M σ so v N := by
  obtain ⟨d1, u1⟩ := hl.up P
  have b1 := hl.b
  have t9 := P.tN9
  refine ⟨d1 + 1, hv, ?_⟩
  rcases hk with ⟨rfl, hk⟩ | ⟨rfl, hk, hk'⟩
  · exact Or.inr (Or.inr (Or.inr (Or.inr (Or.inr (Or.inr (Or.inr (Or.inl ⟨rfl, hk, h3, h4, x, hx, by omega, u1 _ (by omega)⟩)))))))
  · exact Or.inr (Or.inr (Or.inr (Or.inr (Or.inr (Or.inr (Or.inr (Or.inr (Or.inr (Or.inr (Or.inr (Or.inl ⟨rfl, hk, hk', h3, h4, x, hx, by omega, u1 _ (by omega)⟩)))))))))))
/-- a relation -/
theorem Rs.nr (P : Pe C M σ i dep c s n) (hv : (mn M0 ≤ v ∧ v < mn M) ∧ mk M v = 8 ∧ Lo C N ∧ N < tN σ) (hk : (mI M 1400 v, tA σ 25 N) ∈ rlL) (h20 : tA σ 24 N = 20) (h4 : mR M 1404 v = 0) (hx : tA σ 26 N = nI x) (hl : Rs C M0 M σ 0 (mR M 1402 v) x) (hy : tA σ 27 N = nI y) (hr : Rs C M0 M σ 0 (mR M 1403 v) y) : Rs C M0 M σ 1 v N := by
  obtain ⟨d1, u1⟩ := hl.up P
  obtain ⟨d2, u2⟩ := hr.up P
  have b1 := hl.b
  have b2 := hr.b
  have t9 := P.tN9
  exact ⟨max d1 d2 + 1, hv, Or.inr (Or.inr (Or.inr (Or.inr (Or.inr (Or.inr (Or.inr (Or.inr (Or.inr (Or.inr (Or.inl ⟨rfl, hk, h20, h4, ⟨x, hx, by omega, u1 _ (by omega)⟩, y, hy, by omega, u2 _ (by omega)⟩))))))))))⟩
/-- if: a condition and two expressions -/
theorem Rs.n3 {z : Nat} (P : Pe C M σ i dep c s n) (ha : car C = 0) (hv : (mn M0 ≤ v ∧ v < mn M) ∧ mk M v = 8 ∧ Lo C N ∧ N < tN σ) (hk : mI M 1400 v = 21 ∧ tA σ 24 N = 16) (hx : tA σ 25 N = nI x) (h1 : Rs C M0 M σ 1 (mR M 1402 v) x) (hy : tA σ 26 N = nI y) (h2 : Rs C M0 M σ 0 (mR M 1403 v) y) (hz : tA σ 27 N = nI z) (h3 : Rs C M0 M σ 0 (mR M 1404 v) z) : Rs C M0 M σ 0 v N := by
  obtain ⟨d1, u1⟩ := h1.up P
  obtain ⟨d2, u2⟩ := h2.up P
  obtain ⟨d3, u3⟩ := h3.up P
  have b1 := h1.b
  have b2 := h2.b
  have b3 := h3.b
  have t9 := P.tN9
  exact ⟨max d1 (max d2 d3) + 1, hv, Or.inr (Or.inr (Or.inr (Or.inr (Or.inr (Or.inr (Or.inr (Or.inr (Or.inr (Or.inl ⟨rfl, ha, hk.1, hk.2, ⟨x, hx, by omega, u1 _ (by omega)⟩, ⟨y, hy, by omega, u2 _ (by omega)⟩, z, hz, by omega, u3 _ (by omega)⟩)))))))))⟩
/-- two parts and a sign: the left part stands, the sign was read, the right one is read -/
theorem bin_step {oK : Option ((Nat ⊕ Nat) × CM)} {oT : Option (Int32 × TS)} {recK : Nat → CM → Option ((Nat ⊕ (Nat ⊕ Nat)) × CM)} {recT : Int32 → TS → Option (Int32 × TS)} {k kt : Int32} (hb : Es Mb σb M σ) (h0 : 167 ≤ mn Mb) (P : Pe C M σ i dep c s n) (hc : 16 ≤ c) (hs : 2048 ≤ s) (hn : 4 ≤ n) (hR : Rs C Mb M σ so a x) (hk : so = 0 ∧ (k, kt) ∈ biL ∨ so = 1 ∧ (k, kt) ∈ coL) (hsub : Pe C (mnew M 8 0 8) σ i dep (c - 1) (s - 8) n → Ok C (mnew M 8 0 8) σ i dep (c - 1) (s - 8) n so oK oT) (hbad : ∀ (σ' s' : TS) (r : Int32), Br C σ' s' → BW C σ' (recT r s')) :
    (∃ M' σ' i' N', (obS oK (fun w M18 => some (.inr (.inr w), M18)) fun r19 M18 => if ¬ mn M = 0 then ob (K_X8_init_2 (mn M) k a r19 0 M18) fun _ M24 => recK (mn M) M24 else none) = recK (mn M) M' ∧ (ob oT fun r30 s29 => ob (F_node kt (nI x) r30 0 s29) fun r34 s33 => recT r34 s33) = recT (nI N') σ' ∧ Pe C M' σ' i' dep (c - 1) (s - 8) (n - 1) ∧ i < i' ∧ Es Mb σb M' σ' ∧ Rs C Mb M' σ' so (mn M) N') ∨
    (∃ w M' y σ', (obS oK (fun w M18 => some (.inr (.inr w), M18)) fun r19 M18 => if ¬ mn M = 0 then ob (K_X8_init_2 (mn M) k a r19 0 M18) fun _ M24 => recK (mn M) M24 else none) = some (.inr (.inr w), M') ∧ (ob oT fun r30 s29 => ob (F_node kt (nI x) r30 0 s29) fun r34 s33 => recT r34 s33) = some (y, σ') ∧ FB C Mb σb M' w σ') := by
  have h167 := P.n167
  have F2 : Fz none_ M (mnew M 8 0 8) := Fz.rf.mnew
  have P2 := P.al F2 (c' := c - 1) (s' := s - 8) (by rw [mn_mnew]; omega) (by rw [ms_mnew]; omega)
  have E2 : Es M σ (mnew M 8 0 8) σ := Es.al F2 h167
  rcases hsub P2 with ⟨r, M3, y, σ3, i3, a1, a2, a3, a4, a5, a6⟩ | ⟨w, M3, y, σ3, a1, a2, a3⟩
  · have E3 := E2.tr a5
    have hn3 : mn M + 1 ≤ mn M3 := a5.1.1
    have hk3 : mk M3 (mn M) = 8 := by rw [a5.1.k (by rw [mn_mnew]; omega), mk_mnew, ifT rfl]
    obtain ⟨σ4, m1, m2, m3, m4, ⟨m5, m6, m7, m8⟩, ⟨m9, m10, m11, m12⟩, -⟩ := mk_node P E3 (a3.wk (c' := c - 1) (s' := s - 8) (n' := n - 1 + 1) (by omega) (by omega) (by omega)) (v := mn M) ⟨Nat.le_refl _, by omega⟩ hk3 k a r 0 kt (nI x) (nI y) 0
    obtain ⟨j1, j2, j3, j4, j5, j6, j7, j8⟩ := iM_ok M3 (mn M) k a r 0
    left
    rw [a1, obS_inl, ifT (by omega), m1, ob_some, a2, ob_some, m2, ob_some]
    have fr := fS_F_node _ _ _ _ _ _ _ m2
    have hwc : ∀ w, wc (iM M3 (mn M) k a r 0) w = wc M3 w := fun w => by
      have x1 : wc (iM M3 (mn M) k a r 0) w = wc M w := P.wcs m4.1 (fun o z => by rw [z]; exact P.en.1) w
      have x2 : wc M3 w = wc M w := P.wcs E3.1 (fun o z => by rw [z]; exact P.en.1) w
      rw [x1, x2]
    have zz : Tz σ3 σ4 := ⟨⟨by omega, by omega⟩, fun k' hk' j hj => ?_, fun k' hk' j hj => (fr k' (by rcases hk' with rfl | rfl | rfl <;> rfl)).2.2.1 j, fun k' hk' j hj => (fr k' (by rcases hk' with rfl | rfl <;> rfl)).2.2.2 j⟩
    · refine ⟨_, σ4, i3, tN σ3, rfl, rfl, m3, a4, hb.tr m4, ?_⟩
      have hl : Rs C Mb (iM M3 (mn M) k a r 0) σ4 so a x := hR.mv P h0 m4
      have hr : Rs C (mnew M 8 0 8) (iM M3 (mn M) k a r 0) σ4 so r y := a6.pv a3 (by rw [mn_mnew]; omega) j1 (by rw [mn_mnew]; omega) hwc zz (fr.mono (by decide))
      have hr' : Rs C Mb (iM M3 (mn M) k a r 0) σ4 so r y := hr.dn m3 (by rw [mn_mnew]; have := hb.1.1; omega)
      refine Rs.n2 m3 ⟨⟨hb.1.1, by omega⟩, by rw [j4]; exact hk3, m8, by omega⟩ ?_ j8 m10 (by rw [j6]; exact hl) m11 (by rw [j7]; exact hr')
      rw [j5, m9]; exact hk
    · obtain ⟨N0, Q0, n1, n2, n3, n4, n5, n6, n7, n8⟩ := a3.nodes
      obtain ⟨σ4', e1, e2, e3, e4, e5, e6, e7⟩ := t_node n1 (by omega) kt (nI x) (nI y) 0
      rw [m2] at e1
      injection e1 with e1; injection e1 with _ e1
      rw [e1]; exact e7 k' j (by omega)
  · right
    have fb := (a3.tr E2).tr hb
    rw [a1, obS_inr, a2, ob_some]
    obtain ⟨_, s4, e4, g4⟩ := bw_node fb.bd kt (nI x) y 0
    rw [e4, ob_some]
    obtain ⟨y5, s5, e5, g5⟩ := hbad σ3 s4 _ g4
    exact ⟨w, M3, y5, s5, rfl, e5, fb.br g5⟩
end NODES
